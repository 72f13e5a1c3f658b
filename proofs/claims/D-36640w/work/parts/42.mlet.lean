/-! THE PLAIN LAW, 12: letters and routes on the side of the plain tables (printed by gen/mkspec6.py) -/
set_option maxRecDepth 100000
theorem R.le_put {A ad : Ro → Nat} {s : Wo} {w w' : Hp} {L : Let} {g : Nat} {f' : Nat → Option Nat} (h : R A ad s w) (ag : ∀ r, Lv s r → ad r ≠ g) (hg : okA (w' g) 0 16 (fun f => okLet L f)) (hle : w' (ad m_le) = Option.some (aP 7 60 f')) (hf : ∀ k, k < s.m.nl → f' k = Option.some (ad (m_le1 k))) (hfn : f' s.m.nl = Option.some g) (htop : w' (ad m_top) = Option.some (.inr (3, [.int s.m.now, .int (nI (s.m.made + 1)), .int s.th, .int s.m.dlv, rf (ad m_addr), rf (ad m_rou), rf (ad m_outs), rf (ad m_co), rf (ad m_ld), rf (ad m_rt0), rf (ad (m_mx 0)), rf (ad (m_mx 1)), rf (ad (m_mx 2)), rf (ad (m_mx 3)), rf (ad (m_mx 4)), rf (ad (m_mx 5)), rf (ad (m_mx 6)), rf (ad (m_mx 7)), rf (ad (m_mx 8)), rf (ad (m_mx 9)), rf (ad m_pk0), rf (ad m_se0), rf (ad m_tk0), rf (ad m_le), .int (nI (s.m.nl + 1)), rf (ad m_out), .long s.sm])))
    (hw : ∀ q, q ≠ ad m_le → q ≠ ad m_top → q ≠ g → w' q = w q)
    (hro : ∀ a, w' a = Option.some roE → a = ad c_e) : R A (srM ad (fun q => if q = (24, s.m.nl, 0, 0) then .inr g else .inl q)) ((((s.s_m ((s.m.s_nl (s.m.nl + 1)).s_lt (upd1 s.m.lt s.m.nl L))).s_th s.th).s_sm s.sm).s_o s.o) w' := by
  obtain ⟨src, hsrc⟩ : ∃ z : Rq → Rq ⊕ Nat, z = fun q => if q = (24, s.m.nl, 0, 0) then .inr g else .inl q := ⟨_, rfl⟩
  rw [← hsrc]
  have m0 : src (24, s.m.nl, 0, 0) = .inr g := by
    rw [hsrc]; show (if _ = _ then _ else _) = _
    rw [if_pos rfl]
  have mn : ∀ q, q ≠ (24, s.m.nl, 0, 0) → src q = .inl q := by
    intro q n0
    rw [hsrc]
    show (if _ = _ then _ else _) = _
    rw [if_neg n0]
  have v0 : srM ad src (m_le1 s.m.nl) = g := srM_n m0
  have vn : ∀ q, q ≠ (24, s.m.nl, 0, 0) → srM ad src (.inr q) = ad (.inr q) := fun q n0 => srM_o (mn q n0)
  refine h.genM2 ((s.m.s_nl (s.m.nl + 1)).s_lt (upd1 s.m.lt s.m.nl L)) s.th s.sm s.o src (fun q => q = (23, 0, 0, 0) ∨ q = (0, 0, 0, 0)) ?_ ?_ ?_ ?_ ?_ ?_ ?_ hro
  · intro q hq
    exact mn q (fun z => by subst z; exact absurd (show false = true from hq) (by decide))
  · intro q q0 hl e
    by_cases n0 : q = (24, s.m.nl, 0, 0)
    · subst n0; rw [m0] at e
      cases e
    rw [mn q n0] at e
    cases e
    obtain ⟨t, a', b', k'⟩ := q
    match t, hl, n0 with
    | 0, hl, n0 => exact hl
    | 1, hl, n0 => exact hl
    | 2, hl, n0 => exact hl
    | 3, hl, n0 => exact hl
    | 4, hl, n0 => exact hl
    | 5, hl, n0 => exact hl
    | 6, hl, n0 => exact hl
    | 7, hl, n0 => exact hl
    | 8, hl, n0 => exact hl
    | 9, hl, n0 => exact hl
    | 10, hl, n0 => exact hl
    | 11, hl, n0 => exact hl
    | 12, hl, n0 => exact hl
    | 13, hl, n0 => exact hl
    | 14, hl, n0 => exact hl
    | 15, hl, n0 => exact hl
    | 16, hl, n0 => exact hl
    | 17, hl, n0 => exact hl
    | 18, hl, n0 => exact hl
    | 19, hl, n0 => exact hl
    | 20, hl, n0 => exact hl
    | 21, hl, n0 => exact hl
    | 22, hl, n0 => exact hl
    | 23, hl, n0 => exact hl
    | 24, hl, n0 =>
      obtain ⟨h1, h2, h3⟩ := hl
      have h1 : a' < s.m.nl + 1 := h1
      have h2 : b' = 0 := h2
      have h3 : k' = 0 := h3
      subst h2; subst h3
      have h4 : a' ≠ s.m.nl := fun z => n0 (by subst z; rfl)
      exact ⟨by show a' < s.m.nl; omega, rfl, rfl⟩
    | 25, hl, n0 => exact hl
    | 26, hl, n0 => exact hl
    | 27, hl, n0 => exact hl
    | n + 28, hl, n0 => exact hl.elim
  · intro q g hl e r hr
    by_cases n0 : q = (24, s.m.nl, 0, 0)
    · subst n0; rw [m0] at e; cases e; exact ag r hr
    rw [mn q n0] at e; cases e
  · intro q q' hl hl' e
    by_cases n0 : q = (24, s.m.nl, 0, 0)
    · subst n0; rw [m0] at e
      by_cases p0 : q' = (24, s.m.nl, 0, 0)
      · exact p0.symm
      rw [mn q' p0] at e
      cases e
    rw [mn q n0] at e
    by_cases p0 : q' = (24, s.m.nl, 0, 0)
    · subst p0; rw [m0] at e; cases e
    rw [mn q' p0] at e
    exact Sum.inl.inj e
  · intro r hl hT
    exact hw _ (fun z => hT _ (h.inj _ _ hl (show Lv s m_le from l_m_le (s := s)) z) (Or.inl rfl)) (fun z => hT _ (h.inj _ _ hl (show Lv s m_top from l_m_top (s := s)) z) (Or.inr rfl)) (ag r hl)
  · intro q hl hm
    by_cases n0 : q = (24, s.m.nl, 0, 0)
    · subst n0
      rw [show srM ad src (.inr (24, s.m.nl, 0, 0)) = g from v0]
      show okA (w' g) 0 16 (fun f => okLet (upd1 s.m.lt s.m.nl L s.m.nl) f)
      rw [upd1_s]; exact hg
    rcases hm with hm | hm
    · exact absurd (mn q n0) hm
    rcases hm with rfl | rfl
    · rw [show srM ad src (.inr (23, 0, 0, 0)) = ad m_le from vn _ (fun z => by simp at z)]
      show okP (w' (ad m_le)) 7 60 (s.m.nl + 1) (fun k => srM ad src (m_le1 k))
      refine ⟨f', hle, fun k hk => ?_⟩
      by_cases hx9 : k = s.m.nl
      · subst hx9; exact hfn.trans (congrArg Option.some v0.symm)
      · exact (hf k (by omega)).trans (congrArg Option.some (vn (24, k, 0, 0) (fun z => hx9 (by simpa using z))).symm)
    · have t0 : srM ad src m_addr = ad m_addr := vn (1, 0, 0, 0) (fun z => by simp at z)
      have t1 : srM ad src m_rou = ad m_rou := vn (2, 0, 0, 0) (fun z => by simp at z)
      have t2 : srM ad src m_outs = ad m_outs := vn (3, 0, 0, 0) (fun z => by simp at z)
      have t3 : srM ad src m_co = ad m_co := vn (4, 0, 0, 0) (fun z => by simp at z)
      have t4 : srM ad src m_ld = ad m_ld := vn (5, 0, 0, 0) (fun z => by simp at z)
      have t5 : srM ad src m_rt0 = ad m_rt0 := vn (6, 0, 0, 0) (fun z => by simp at z)
      have t6 : srM ad src (m_mx 0) = ad (m_mx 0) := vn (9, 0, 0, 0) (fun z => by simp at z)
      have t7 : srM ad src (m_mx 1) = ad (m_mx 1) := vn (9, 1, 0, 0) (fun z => by simp at z)
      have t8 : srM ad src (m_mx 2) = ad (m_mx 2) := vn (9, 2, 0, 0) (fun z => by simp at z)
      have t9 : srM ad src (m_mx 3) = ad (m_mx 3) := vn (9, 3, 0, 0) (fun z => by simp at z)
      have t10 : srM ad src (m_mx 4) = ad (m_mx 4) := vn (9, 4, 0, 0) (fun z => by simp at z)
      have t11 : srM ad src (m_mx 5) = ad (m_mx 5) := vn (9, 5, 0, 0) (fun z => by simp at z)
      have t12 : srM ad src (m_mx 6) = ad (m_mx 6) := vn (9, 6, 0, 0) (fun z => by simp at z)
      have t13 : srM ad src (m_mx 7) = ad (m_mx 7) := vn (9, 7, 0, 0) (fun z => by simp at z)
      have t14 : srM ad src (m_mx 8) = ad (m_mx 8) := vn (9, 8, 0, 0) (fun z => by simp at z)
      have t15 : srM ad src (m_mx 9) = ad (m_mx 9) := vn (9, 9, 0, 0) (fun z => by simp at z)
      have t16 : srM ad src m_pk0 = ad m_pk0 := vn (11, 0, 0, 0) (fun z => by simp at z)
      have t17 : srM ad src m_se0 = ad m_se0 := vn (15, 0, 0, 0) (fun z => by simp at z)
      have t18 : srM ad src m_tk0 = ad m_tk0 := vn (19, 0, 0, 0) (fun z => by simp at z)
      have t19 : srM ad src m_le = ad m_le := vn (23, 0, 0, 0) (fun z => by simp at z)
      have t20 : srM ad src m_out = ad m_out := vn (25, 0, 0, 0) (fun z => by simp at z)
      have tt : srM ad src m_top = ad m_top := vn (0, 0, 0, 0) (fun z => by simp at z)
      show w' (srM ad src m_top) = Option.some (.inr (3, [.int s.m.now, .int (nI (s.m.made + 1)), .int s.th, .int s.m.dlv, rf (srM ad src m_addr), rf (srM ad src m_rou), rf (srM ad src m_outs), rf (srM ad src m_co), rf (srM ad src m_ld), rf (srM ad src m_rt0), rf (srM ad src (m_mx 0)), rf (srM ad src (m_mx 1)), rf (srM ad src (m_mx 2)), rf (srM ad src (m_mx 3)), rf (srM ad src (m_mx 4)), rf (srM ad src (m_mx 5)), rf (srM ad src (m_mx 6)), rf (srM ad src (m_mx 7)), rf (srM ad src (m_mx 8)), rf (srM ad src (m_mx 9)), rf (srM ad src m_pk0), rf (srM ad src m_se0), rf (srM ad src m_tk0), rf (srM ad src m_le), .int (nI (s.m.nl + 1)), rf (srM ad src m_out), .long s.sm]))
      rw [tt, t0, t1, t2, t3, t4, t5, t6, t7, t8, t9, t10, t11, t12, t13, t14, t15, t16, t17, t18, t19, t20]
      exact htop
  · intro q x hl hm hT hx
    have n0 : q ≠ (24, s.m.nl, 0, 0) := fun z => by subst z; rw [m0] at hm; cases hm
    have hx : OkM s.m s.th s.sm s.o (srM ad src) x q := by
      refine OkM.congr2 (fun q9 hk => vn q9 (fun z => ?_)) hx
      · subst z
        obtain ⟨t, a', b', k'⟩ := q
        match t, hl, hT, hk, n0 with
        | 0, hl, hT, hk, n0 => simp [kidM] at hk
        | 1, hl, hT, hk, n0 => simp [kidM] at hk
        | 2, hl, hT, hk, n0 => simp [kidM] at hk
        | 3, hl, hT, hk, n0 => simp [kidM] at hk
        | 4, hl, hT, hk, n0 => simp [kidM] at hk
        | 5, hl, hT, hk, n0 => simp [kidM] at hk
        | 6, hl, hT, hk, n0 => simp [kidM] at hk
        | 7, hl, hT, hk, n0 => simp [kidM] at hk
        | 8, hl, hT, hk, n0 => simp [kidM] at hk
        | 9, hl, hT, hk, n0 => simp [kidM] at hk
        | 10, hl, hT, hk, n0 => simp [kidM] at hk
        | 11, hl, hT, hk, n0 => simp [kidM] at hk
        | 12, hl, hT, hk, n0 => simp [kidM] at hk
        | 13, hl, hT, hk, n0 => simp [kidM] at hk
        | 14, hl, hT, hk, n0 => simp [kidM] at hk
        | 15, hl, hT, hk, n0 => simp [kidM] at hk
        | 16, hl, hT, hk, n0 => simp [kidM] at hk
        | 17, hl, hT, hk, n0 => simp [kidM] at hk
        | 18, hl, hT, hk, n0 => simp [kidM] at hk
        | 19, hl, hT, hk, n0 => simp [kidM] at hk
        | 20, hl, hT, hk, n0 => simp [kidM] at hk
        | 21, hl, hT, hk, n0 => simp [kidM] at hk
        | 22, hl, hT, hk, n0 => simp [kidM] at hk
        | 23, hl, hT, hk, n0 =>
          obtain ⟨h1, h2, h3⟩ := hl
          have h1 : a' = 0 := h1
          have h2 : b' = 0 := h2
          have h3 : k' = 0 := h3
          subst h1; subst h2; subst h3
          exact hT (Or.inl rfl)
        | 24, hl, hT, hk, n0 => simp [kidM] at hk
        | 25, hl, hT, hk, n0 => simp [kidM] at hk
        | 26, hl, hT, hk, n0 => simp [kidM] at hk
        | 27, hl, hT, hk, n0 => simp [kidM] at hk
        | n + 28, hl, hT, hk, n0 => exact hl.elim
    obtain ⟨t, a', b', k'⟩ := q
    match t, hl, hT, hx, n0 with
    | 0, hl, hT, hx, n0 => exact absurd (Or.inr (by obtain ⟨h1, h2, h3⟩ := hl; have h1 : a' = 0 := h1; have h2 : b' = 0 := h2; have h3 : k' = 0 := h3; subst h1; subst h2; subst h3; rfl)) hT
    | 1, hl, hT, hx, n0 => exact hx
    | 2, hl, hT, hx, n0 => exact hx
    | 3, hl, hT, hx, n0 => exact hx
    | 4, hl, hT, hx, n0 => exact hx
    | 5, hl, hT, hx, n0 => exact hx
    | 6, hl, hT, hx, n0 => exact hx
    | 7, hl, hT, hx, n0 => exact hx
    | 8, hl, hT, hx, n0 => exact hx
    | 9, hl, hT, hx, n0 => exact hx
    | 10, hl, hT, hx, n0 => exact hx
    | 11, hl, hT, hx, n0 => exact hx
    | 12, hl, hT, hx, n0 => exact hx
    | 13, hl, hT, hx, n0 => exact hx
    | 14, hl, hT, hx, n0 => exact hx
    | 15, hl, hT, hx, n0 => exact hx
    | 16, hl, hT, hx, n0 => exact hx
    | 17, hl, hT, hx, n0 => exact hx
    | 18, hl, hT, hx, n0 => exact hx
    | 19, hl, hT, hx, n0 => exact hx
    | 20, hl, hT, hx, n0 => exact hx
    | 21, hl, hT, hx, n0 => exact hx
    | 22, hl, hT, hx, n0 => exact hx
    | 23, hl, hT, hx, n0 => exact absurd (Or.inl (by obtain ⟨h1, h2, h3⟩ := hl; have h1 : a' = 0 := h1; have h2 : b' = 0 := h2; have h3 : k' = 0 := h3; subst h1; subst h2; subst h3; rfl)) hT
    | 24, hl, hT, hx, n0 =>
      have hx9 : ¬ a' = s.m.nl := fun z => n0 (by obtain ⟨_, h2, h3⟩ := hl; have h2 : b' = 0 := h2; have h3 : k' = 0 := h3; subst z; subst h2; subst h3; rfl)
      show okA x 0 16 (fun f => okLet (upd1 s.m.lt s.m.nl L a') f)
      rw [upd1_n hx9]; exact hx
    | 25, hl, hT, hx, n0 => exact hx
    | 26, hl, hT, hx, n0 => exact hx
    | 27, hl, hT, hx, n0 => exact hx
    | n + 28, hl, hT, hx, n0 => exact hl.elim
theorem R.le_take {A ad : Ro → Nat} {s : Wo} {w w' : Hp} {i : Nat} {f' : Nat → Option Nat} (h : R A ad s w) (hi : i < s.m.nl) (hle : w' (ad m_le) = Option.some (aP 7 60 f')) (hf : ∀ k, k < s.m.nl - 1 → f' k = Option.some (ad (m_le1 (if k < i then k else k + 1)))) (htop : w' (ad m_top) = Option.some (.inr (3, [.int s.m.now, .int (nI (s.m.made + 1)), .int s.th, .int s.m.dlv, rf (ad m_addr), rf (ad m_rou), rf (ad m_outs), rf (ad m_co), rf (ad m_ld), rf (ad m_rt0), rf (ad (m_mx 0)), rf (ad (m_mx 1)), rf (ad (m_mx 2)), rf (ad (m_mx 3)), rf (ad (m_mx 4)), rf (ad (m_mx 5)), rf (ad (m_mx 6)), rf (ad (m_mx 7)), rf (ad (m_mx 8)), rf (ad (m_mx 9)), rf (ad m_pk0), rf (ad m_se0), rf (ad m_tk0), rf (ad m_le), .int (nI (s.m.nl - 1)), rf (ad m_out), .long s.sm])))
    (hw : ∀ q, q ≠ ad m_le → q ≠ ad m_top → w' q = w q)
    (hro : ∀ a, w' a = Option.some roE → a = ad c_e) : R A (srM ad (fun q => if q.1 = 24 ∧ i ≤ q.2.1 then .inl (q.1, q.2.1 + 1, q.2.2) else .inl q)) ((((s.s_m ((s.m.s_nl (s.m.nl - 1)).s_lt (rmL s.m.lt i))).s_th s.th).s_sm s.sm).s_o s.o) w' := by
  obtain ⟨src, hsrc⟩ : ∃ z : Rq → Rq ⊕ Nat, z = fun q => if q.1 = 24 ∧ i ≤ q.2.1 then .inl (q.1, q.2.1 + 1, q.2.2) else .inl q := ⟨_, rfl⟩
  rw [← hsrc]
  have my : ∀ q : Rq, q.1 = 24 ∧ i ≤ q.2.1 → src q = .inl (q.1, q.2.1 + 1, q.2.2) := fun q hq => by rw [hsrc]; exact if_pos hq
  have mn : ∀ q : Rq, ¬ (q.1 = 24 ∧ i ≤ q.2.1) → src q = .inl q := fun q hq => by rw [hsrc]; exact if_neg hq
  have vy : ∀ q : Rq, q.1 = 24 ∧ i ≤ q.2.1 → srM ad src (.inr q) = ad (.inr (q.1, q.2.1 + 1, q.2.2)) := fun q hq => srM_o (my q hq)
  have vn : ∀ q : Rq, ¬ (q.1 = 24 ∧ i ≤ q.2.1) → srM ad src (.inr q) = ad (.inr q) := fun q hq => srM_o (mn q hq)
  have lvs : ∀ q : Rq, LvM ((s.m.s_nl (s.m.nl - 1)).s_lt (rmL s.m.lt i)) q → q.1 = 24 ∧ i ≤ q.2.1 → LvM s.m (q.1, q.2.1 + 1, q.2.2) := by
    rintro ⟨t, a', b', k'⟩ hl ⟨z1, z2⟩
    have z1 : t = 24 := z1
    subst z1
    obtain ⟨h1, h2⟩ := hl
    have h1 : a' < s.m.nl - 1 := h1
    exact ⟨by show a' + 1 < s.m.nl; omega, h2⟩
  refine h.genM2 ((s.m.s_nl (s.m.nl - 1)).s_lt (rmL s.m.lt i)) s.th s.sm s.o src (fun q => q = (23, 0, 0, 0) ∨ q = (0, 0, 0, 0)) ?_ ?_ ?_ ?_ ?_ ?_ ?_ hro
  · intro q hq
    refine mn q (fun z => ?_)
    obtain ⟨t, q2⟩ := q
    have z1 : t = 24 := z.1
    subst z1; exact absurd (show false = true from hq) (by decide)
  · intro q q0 hl e
    by_cases n0 : q.1 = 24 ∧ i ≤ q.2.1
    · rw [my q n0] at e; cases e; exact lvs q hl n0
    rw [mn q n0] at e; cases e
    obtain ⟨t, a', b', k'⟩ := q
    match t, hl, n0 with
    | 0, hl, n0 => exact hl
    | 1, hl, n0 => exact hl
    | 2, hl, n0 => exact hl
    | 3, hl, n0 => exact hl
    | 4, hl, n0 => exact hl
    | 5, hl, n0 => exact hl
    | 6, hl, n0 => exact hl
    | 7, hl, n0 => exact hl
    | 8, hl, n0 => exact hl
    | 9, hl, n0 => exact hl
    | 10, hl, n0 => exact hl
    | 11, hl, n0 => exact hl
    | 12, hl, n0 => exact hl
    | 13, hl, n0 => exact hl
    | 14, hl, n0 => exact hl
    | 15, hl, n0 => exact hl
    | 16, hl, n0 => exact hl
    | 17, hl, n0 => exact hl
    | 18, hl, n0 => exact hl
    | 19, hl, n0 => exact hl
    | 20, hl, n0 => exact hl
    | 21, hl, n0 => exact hl
    | 22, hl, n0 => exact hl
    | 23, hl, n0 => exact hl
    | 24, hl, n0 =>
      obtain ⟨h1, h2⟩ := hl
      have h1 : a' < s.m.nl - 1 := h1
      exact ⟨by show a' < s.m.nl; omega, h2⟩
    | 25, hl, n0 => exact hl
    | 26, hl, n0 => exact hl
    | 27, hl, n0 => exact hl
    | n + 28, hl, n0 => exact hl.elim
  · intro q g hl e r hr
    by_cases n0 : q.1 = 24 ∧ i ≤ q.2.1
    · rw [my q n0] at e; cases e
    · rw [mn q n0] at e; cases e
  · intro q q' hl hl' e
    obtain ⟨t, a1, b1, k1⟩ := q
    obtain ⟨t', a2, b2, k2⟩ := q'
    by_cases n0 : ((t, a1, b1, k1) : Rq).1 = 24 ∧ i ≤ ((t, a1, b1, k1) : Rq).2.1 <;> by_cases n1 : ((t', a2, b2, k2) : Rq).1 = 24 ∧ i ≤ ((t', a2, b2, k2) : Rq).2.1
    · rw [my _ n0, my _ n1] at e; have e := Sum.inl.inj e; simp only [Prod.mk.injEq] at e n0 n1 ⊢; omega
    · rw [my _ n0, mn _ n1] at e; have e := Sum.inl.inj e; simp only [Prod.mk.injEq] at e n0 n1 ⊢; omega
    · rw [mn _ n0, my _ n1] at e; have e := Sum.inl.inj e; simp only [Prod.mk.injEq] at e n0 n1 ⊢; omega
    · rw [mn _ n0, mn _ n1] at e; have e := Sum.inl.inj e; simp only [Prod.mk.injEq] at e n0 n1 ⊢; omega
  · intro r hl hT
    exact hw _ (fun z => hT _ (h.inj _ _ hl (show Lv s m_le from l_m_le (s := s)) z) (Or.inl rfl)) (fun z => hT _ (h.inj _ _ hl (show Lv s m_top from l_m_top (s := s)) z) (Or.inr rfl))
  · intro q hl hm
    by_cases n0 : q.1 = 24 ∧ i ≤ q.2.1
    · have l0 := lvs q hl n0
      rw [vy q n0, hw _ (fun z => by have z1 := congrArg Prod.fst (Sum.inr.inj (h.inj _ _ (show Lv s (.inr _) from l0) (show Lv s m_le from l_m_le (s := s)) z)); have z2 := n0.1; simp only [] at z1; rw [z2] at z1; cases z1) (fun z => by have z1 := congrArg Prod.fst (Sum.inr.inj (h.inj _ _ (show Lv s (.inr _) from l0) (show Lv s m_top from l_m_top (s := s)) z)); have z2 := n0.1; simp only [] at z1; rw [z2] at z1; cases z1)]
      have ok := h.ok _ (show Lv s (.inr _) from l0)
      obtain ⟨t, a', b', k'⟩ := q
      have z1 : t = 24 := n0.1
      subst z1
      have z2 : i ≤ a' := n0.2
      obtain ⟨_, h2, h3⟩ := hl
      have h2 : b' = 0 := h2
      have h3 : k' = 0 := h3
      subst h2; subst h3
      show okA (w (ad (m_le1 (a' + 1)))) 0 16 (fun f => okLet (rmL s.m.lt i a') f)
      rw [rmL_ge z2]; exact ok
    rcases hm with hm | hm
    · exact absurd (mn q n0) hm
    rcases hm with rfl | rfl
    · rw [show srM ad src (.inr (23, 0, 0, 0)) = ad m_le from vn _ (fun z => by have z1 := z.1; cases z1)]
      show okP (w' (ad m_le)) 7 60 (s.m.nl - 1) (fun k => srM ad src (m_le1 k))
      refine ⟨f', hle, fun k hk => (hf k hk).trans (congrArg Option.some ?_)⟩
      by_cases hx9 : k < i
      · rw [if_pos hx9]; exact (vn (24, k, 0, 0) (fun z => absurd z.2 (by show ¬ i ≤ k; omega))).symm
      · rw [if_neg hx9]; exact (vy (24, k, 0, 0) ⟨rfl, by show i ≤ k; omega⟩).symm
    · have t0 : srM ad src m_addr = ad m_addr := vn (1, 0, 0, 0) (fun z => by have z1 := z.1; cases z1)
      have t1 : srM ad src m_rou = ad m_rou := vn (2, 0, 0, 0) (fun z => by have z1 := z.1; cases z1)
      have t2 : srM ad src m_outs = ad m_outs := vn (3, 0, 0, 0) (fun z => by have z1 := z.1; cases z1)
      have t3 : srM ad src m_co = ad m_co := vn (4, 0, 0, 0) (fun z => by have z1 := z.1; cases z1)
      have t4 : srM ad src m_ld = ad m_ld := vn (5, 0, 0, 0) (fun z => by have z1 := z.1; cases z1)
      have t5 : srM ad src m_rt0 = ad m_rt0 := vn (6, 0, 0, 0) (fun z => by have z1 := z.1; cases z1)
      have t6 : srM ad src (m_mx 0) = ad (m_mx 0) := vn (9, 0, 0, 0) (fun z => by have z1 := z.1; cases z1)
      have t7 : srM ad src (m_mx 1) = ad (m_mx 1) := vn (9, 1, 0, 0) (fun z => by have z1 := z.1; cases z1)
      have t8 : srM ad src (m_mx 2) = ad (m_mx 2) := vn (9, 2, 0, 0) (fun z => by have z1 := z.1; cases z1)
      have t9 : srM ad src (m_mx 3) = ad (m_mx 3) := vn (9, 3, 0, 0) (fun z => by have z1 := z.1; cases z1)
      have t10 : srM ad src (m_mx 4) = ad (m_mx 4) := vn (9, 4, 0, 0) (fun z => by have z1 := z.1; cases z1)
      have t11 : srM ad src (m_mx 5) = ad (m_mx 5) := vn (9, 5, 0, 0) (fun z => by have z1 := z.1; cases z1)
      have t12 : srM ad src (m_mx 6) = ad (m_mx 6) := vn (9, 6, 0, 0) (fun z => by have z1 := z.1; cases z1)
      have t13 : srM ad src (m_mx 7) = ad (m_mx 7) := vn (9, 7, 0, 0) (fun z => by have z1 := z.1; cases z1)
      have t14 : srM ad src (m_mx 8) = ad (m_mx 8) := vn (9, 8, 0, 0) (fun z => by have z1 := z.1; cases z1)
      have t15 : srM ad src (m_mx 9) = ad (m_mx 9) := vn (9, 9, 0, 0) (fun z => by have z1 := z.1; cases z1)
      have t16 : srM ad src m_pk0 = ad m_pk0 := vn (11, 0, 0, 0) (fun z => by have z1 := z.1; cases z1)
      have t17 : srM ad src m_se0 = ad m_se0 := vn (15, 0, 0, 0) (fun z => by have z1 := z.1; cases z1)
      have t18 : srM ad src m_tk0 = ad m_tk0 := vn (19, 0, 0, 0) (fun z => by have z1 := z.1; cases z1)
      have t19 : srM ad src m_le = ad m_le := vn (23, 0, 0, 0) (fun z => by have z1 := z.1; cases z1)
      have t20 : srM ad src m_out = ad m_out := vn (25, 0, 0, 0) (fun z => by have z1 := z.1; cases z1)
      have tt : srM ad src m_top = ad m_top := vn (0, 0, 0, 0) (fun z => by have z1 := z.1; cases z1)
      show w' (srM ad src m_top) = Option.some (.inr (3, [.int s.m.now, .int (nI (s.m.made + 1)), .int s.th, .int s.m.dlv, rf (srM ad src m_addr), rf (srM ad src m_rou), rf (srM ad src m_outs), rf (srM ad src m_co), rf (srM ad src m_ld), rf (srM ad src m_rt0), rf (srM ad src (m_mx 0)), rf (srM ad src (m_mx 1)), rf (srM ad src (m_mx 2)), rf (srM ad src (m_mx 3)), rf (srM ad src (m_mx 4)), rf (srM ad src (m_mx 5)), rf (srM ad src (m_mx 6)), rf (srM ad src (m_mx 7)), rf (srM ad src (m_mx 8)), rf (srM ad src (m_mx 9)), rf (srM ad src m_pk0), rf (srM ad src m_se0), rf (srM ad src m_tk0), rf (srM ad src m_le), .int (nI (s.m.nl - 1)), rf (srM ad src m_out), .long s.sm]))
      rw [tt, t0, t1, t2, t3, t4, t5, t6, t7, t8, t9, t10, t11, t12, t13, t14, t15, t16, t17, t18, t19, t20]
      exact htop
  · intro q x hl hm hT hx
    have n0 : ¬ (q.1 = 24 ∧ i ≤ q.2.1) := fun z => by
      rw [my q z] at hm; obtain ⟨t, a', b', k'⟩ := q; have e := Sum.inl.inj hm; simp only [Prod.mk.injEq] at e; omega
    have hx : OkM s.m s.th s.sm s.o (srM ad src) x q := by
      refine OkM.congr2 (fun q9 hk => vn q9 (fun z => ?_)) hx
      obtain ⟨t, a', b', k'⟩ := q
      match t, hl, hT, hk, n0 with
      | 0, hl, hT, hk, n0 => rcases hk with rfl | rfl | rfl | rfl | rfl | rfl | rfl | rfl | rfl | rfl | rfl | rfl | rfl | rfl | rfl | rfl | rfl | rfl | rfl | rfl | rfl <;> (have z1 := z.1; cases z1)
      | 1, hl, hT, hk, n0 => exact hk.elim
      | 2, hl, hT, hk, n0 => exact hk.elim
      | 3, hl, hT, hk, n0 => exact hk.elim
      | 4, hl, hT, hk, n0 => exact hk.elim
      | 5, hl, hT, hk, n0 => exact hk.elim
      | 6, hl, hT, hk, n0 => rcases hk with ⟨x9, rfl⟩ <;> (have z1 := z.1; cases z1)
      | 7, hl, hT, hk, n0 => rcases hk with ⟨x9, rfl⟩ <;> (have z1 := z.1; cases z1)
      | 8, hl, hT, hk, n0 => exact hk.elim
      | 9, hl, hT, hk, n0 => rcases hk with ⟨x9, rfl⟩ <;> (have z1 := z.1; cases z1)
      | 10, hl, hT, hk, n0 => exact hk.elim
      | 11, hl, hT, hk, n0 => rcases hk with ⟨x9, rfl⟩ <;> (have z1 := z.1; cases z1)
      | 12, hl, hT, hk, n0 => rcases hk with ⟨x9, rfl⟩ <;> (have z1 := z.1; cases z1)
      | 13, hl, hT, hk, n0 => rcases hk with ⟨x9, rfl⟩ <;> (have z1 := z.1; cases z1)
      | 14, hl, hT, hk, n0 => exact hk.elim
      | 15, hl, hT, hk, n0 => rcases hk with ⟨x9, rfl⟩ <;> (have z1 := z.1; cases z1)
      | 16, hl, hT, hk, n0 => rcases hk with ⟨x9, rfl⟩ <;> (have z1 := z.1; cases z1)
      | 17, hl, hT, hk, n0 => rcases hk with ⟨x9, rfl⟩ <;> (have z1 := z.1; cases z1)
      | 18, hl, hT, hk, n0 => exact hk.elim
      | 19, hl, hT, hk, n0 => rcases hk with ⟨x9, rfl⟩ <;> (have z1 := z.1; cases z1)
      | 20, hl, hT, hk, n0 => rcases hk with ⟨x9, rfl⟩ <;> (have z1 := z.1; cases z1)
      | 21, hl, hT, hk, n0 => rcases hk with ⟨x9, rfl⟩ <;> (have z1 := z.1; cases z1)
      | 22, hl, hT, hk, n0 => exact hk.elim
      | 23, hl, hT, hk, n0 =>
        obtain ⟨h1, h2, h3⟩ := hl
        have h1 : a' = 0 := h1
        have h2 : b' = 0 := h2
        have h3 : k' = 0 := h3
        subst h1; subst h2; subst h3
        exact hT (Or.inl rfl)
      | 24, hl, hT, hk, n0 => exact hk.elim
      | 25, hl, hT, hk, n0 => rcases hk with ⟨x9, rfl⟩ <;> (have z1 := z.1; cases z1)
      | 26, hl, hT, hk, n0 => exact hk.elim
      | 27, hl, hT, hk, n0 => exact hk.elim
      | n + 28, hl, hT, hk, n0 => exact hl.elim
    obtain ⟨t, a', b', k'⟩ := q
    match t, hl, hT, hx, n0 with
    | 0, hl, hT, hx, n0 => exact absurd (Or.inr (by obtain ⟨h1, h2, h3⟩ := hl; have h1 : a' = 0 := h1; have h2 : b' = 0 := h2; have h3 : k' = 0 := h3; subst h1; subst h2; subst h3; rfl)) hT
    | 1, hl, hT, hx, n0 => exact hx
    | 2, hl, hT, hx, n0 => exact hx
    | 3, hl, hT, hx, n0 => exact hx
    | 4, hl, hT, hx, n0 => exact hx
    | 5, hl, hT, hx, n0 => exact hx
    | 6, hl, hT, hx, n0 => exact hx
    | 7, hl, hT, hx, n0 => exact hx
    | 8, hl, hT, hx, n0 => exact hx
    | 9, hl, hT, hx, n0 => exact hx
    | 10, hl, hT, hx, n0 => exact hx
    | 11, hl, hT, hx, n0 => exact hx
    | 12, hl, hT, hx, n0 => exact hx
    | 13, hl, hT, hx, n0 => exact hx
    | 14, hl, hT, hx, n0 => exact hx
    | 15, hl, hT, hx, n0 => exact hx
    | 16, hl, hT, hx, n0 => exact hx
    | 17, hl, hT, hx, n0 => exact hx
    | 18, hl, hT, hx, n0 => exact hx
    | 19, hl, hT, hx, n0 => exact hx
    | 20, hl, hT, hx, n0 => exact hx
    | 21, hl, hT, hx, n0 => exact hx
    | 22, hl, hT, hx, n0 => exact hx
    | 23, hl, hT, hx, n0 => exact absurd (Or.inl (by obtain ⟨h1, h2, h3⟩ := hl; have h1 : a' = 0 := h1; have h2 : b' = 0 := h2; have h3 : k' = 0 := h3; subst h1; subst h2; subst h3; rfl)) hT
    | 24, hl, hT, hx, n0 =>
      have hx9 : a' < i := Nat.not_le.mp (fun z => n0 ⟨rfl, z⟩)
      show okA x 0 16 (fun f => okLet (rmL s.m.lt i a') f)
      rw [rmL_lt hx9]; exact hx
    | 25, hl, hT, hx, n0 => exact hx
    | 26, hl, hT, hx, n0 => exact hx
    | 27, hl, hT, hx, n0 => exact hx
    | n + 28, hl, hT, hx, n0 => exact hl.elim
theorem R.rt_set {A ad : Ro → Nat} {s : Wo} {w w' : Hp} {r : Rt} {u g k : Nat} {f' : Nat → Option Nat} (h : R A ad s w) (he : u < 3) (hk : k < s.m.nr u) (ag : ∀ r, Lv s r → ad r ≠ g) (hg : okA (w' g) 0 3 (fun f => f 0 = r.pfx ∧ f 1 = r.bits ∧ f 2 = r.peer)) (hrt : w' (ad (m_rt1 u)) = Option.some (aP 7 8 f')) (hf : ∀ j, j < s.m.nr u → j ≠ k → f' j = Option.some (ad (m_rt2 u j))) (hfn : f' k = Option.some g)
    (hw : ∀ q, q ≠ ad (m_rt1 u) → q ≠ g → w' q = w q)
    (hro : ∀ a, w' a = Option.some roE → a = ad c_e) : R A (srM ad (fun q => if q = (8, u, k, 0) then .inr g else .inl q)) ((((s.s_m (s.m.s_rt (upd2 s.m.rt u k r))).s_th s.th).s_sm s.sm).s_o s.o) w' := by
  obtain ⟨src, hsrc⟩ : ∃ z : Rq → Rq ⊕ Nat, z = fun q => if q = (8, u, k, 0) then .inr g else .inl q := ⟨_, rfl⟩
  rw [← hsrc]
  have m0 : src (8, u, k, 0) = .inr g := by
    rw [hsrc]; show (if _ = _ then _ else _) = _
    rw [if_pos rfl]
  have mn : ∀ q, q ≠ (8, u, k, 0) → src q = .inl q := by
    intro q n0
    rw [hsrc]
    show (if _ = _ then _ else _) = _
    rw [if_neg n0]
  have v0 : srM ad src (m_rt2 u k) = g := srM_n m0
  have vn : ∀ q, q ≠ (8, u, k, 0) → srM ad src (.inr q) = ad (.inr q) := fun q n0 => srM_o (mn q n0)
  refine h.genM2 (s.m.s_rt (upd2 s.m.rt u k r)) s.th s.sm s.o src (fun q => q = (7, u, 0, 0)) ?_ ?_ ?_ ?_ ?_ ?_ ?_ hro
  · intro q hq
    exact mn q (fun z => by subst z; exact absurd (show false = true from hq) (by decide))
  · intro q q0 hl e
    by_cases n0 : q = (8, u, k, 0)
    · subst n0; rw [m0] at e
      cases e
    rw [mn q n0] at e
    cases e
    obtain ⟨t, a', b', k'⟩ := q
    match t, hl, n0 with
    | 0, hl, n0 => exact hl
    | 1, hl, n0 => exact hl
    | 2, hl, n0 => exact hl
    | 3, hl, n0 => exact hl
    | 4, hl, n0 => exact hl
    | 5, hl, n0 => exact hl
    | 6, hl, n0 => exact hl
    | 7, hl, n0 => exact hl
    | 8, hl, n0 => exact hl
    | 9, hl, n0 => exact hl
    | 10, hl, n0 => exact hl
    | 11, hl, n0 => exact hl
    | 12, hl, n0 => exact hl
    | 13, hl, n0 => exact hl
    | 14, hl, n0 => exact hl
    | 15, hl, n0 => exact hl
    | 16, hl, n0 => exact hl
    | 17, hl, n0 => exact hl
    | 18, hl, n0 => exact hl
    | 19, hl, n0 => exact hl
    | 20, hl, n0 => exact hl
    | 21, hl, n0 => exact hl
    | 22, hl, n0 => exact hl
    | 23, hl, n0 => exact hl
    | 24, hl, n0 => exact hl
    | 25, hl, n0 => exact hl
    | 26, hl, n0 => exact hl
    | 27, hl, n0 => exact hl
    | n + 28, hl, n0 => exact hl.elim
  · intro q g hl e r hr
    by_cases n0 : q = (8, u, k, 0)
    · subst n0; rw [m0] at e; cases e; exact ag r hr
    rw [mn q n0] at e; cases e
  · intro q q' hl hl' e
    by_cases n0 : q = (8, u, k, 0)
    · subst n0; rw [m0] at e
      by_cases p0 : q' = (8, u, k, 0)
      · exact p0.symm
      rw [mn q' p0] at e
      cases e
    rw [mn q n0] at e
    by_cases p0 : q' = (8, u, k, 0)
    · subst p0; rw [m0] at e; cases e
    rw [mn q' p0] at e
    exact Sum.inl.inj e
  · intro r hl hT
    exact hw _ (fun z => hT _ (h.inj _ _ hl (show Lv s (m_rt1 u) from l_m_rt1 (s := s) he) z) rfl) (ag r hl)
  · intro q hl hm
    by_cases n0 : q = (8, u, k, 0)
    · subst n0
      rw [show srM ad src (.inr (8, u, k, 0)) = g from v0]
      show okA (w' g) 0 3 (fun f => f 0 = (upd2 s.m.rt u k r u k).pfx ∧ f 1 = (upd2 s.m.rt u k r u k).bits ∧ f 2 = (upd2 s.m.rt u k r u k).peer)
      rw [upd2_s]; exact hg
    rcases hm with hm | hm
    · exact absurd (mn q n0) hm
    subst hm
    rw [show srM ad src (.inr (7, u, 0, 0)) = ad (m_rt1 u) from vn _ (fun z => by simp at z)]
    show okP (w' (ad (m_rt1 u))) 7 8 (s.m.nr u) (fun j => srM ad src (m_rt2 u j))
    refine ⟨f', hrt, fun j hj => ?_⟩
    by_cases hx9 : j = k
    · subst hx9; exact hfn.trans (congrArg Option.some v0.symm)
    · exact (hf j (by omega) hx9).trans (congrArg Option.some (vn (8, u, j, 0) (fun z => hx9 (by simpa using z))).symm)
  · intro q x hl hm hT hx
    have n0 : q ≠ (8, u, k, 0) := fun z => by subst z; rw [m0] at hm; cases hm
    have hx : OkM s.m s.th s.sm s.o (srM ad src) x q := by
      refine OkM.congr2 (fun q9 hk => vn q9 (fun z => ?_)) hx
      · subst z
        obtain ⟨t, a', b', k'⟩ := q
        match t, hl, hT, hk, n0 with
        | 0, hl, hT, hk, n0 => simp [kidM] at hk
        | 1, hl, hT, hk, n0 => simp [kidM] at hk
        | 2, hl, hT, hk, n0 => simp [kidM] at hk
        | 3, hl, hT, hk, n0 => simp [kidM] at hk
        | 4, hl, hT, hk, n0 => simp [kidM] at hk
        | 5, hl, hT, hk, n0 => simp [kidM] at hk
        | 6, hl, hT, hk, n0 => simp [kidM] at hk
        | 7, hl, hT, hk, n0 =>
          obtain ⟨x9, hk⟩ := hk
          have h9 : a' = u := by
            simp at hk
            first | exact hk.1.symm | exact hk.1
          obtain ⟨_, h2, h3⟩ := hl
          have h2 : b' = 0 := h2
          have h3 : k' = 0 := h3
          subst h2; subst h3; subst h9
          exact hT (rfl)
        | 8, hl, hT, hk, n0 => simp [kidM] at hk
        | 9, hl, hT, hk, n0 => simp [kidM] at hk
        | 10, hl, hT, hk, n0 => simp [kidM] at hk
        | 11, hl, hT, hk, n0 => simp [kidM] at hk
        | 12, hl, hT, hk, n0 => simp [kidM] at hk
        | 13, hl, hT, hk, n0 => simp [kidM] at hk
        | 14, hl, hT, hk, n0 => simp [kidM] at hk
        | 15, hl, hT, hk, n0 => simp [kidM] at hk
        | 16, hl, hT, hk, n0 => simp [kidM] at hk
        | 17, hl, hT, hk, n0 => simp [kidM] at hk
        | 18, hl, hT, hk, n0 => simp [kidM] at hk
        | 19, hl, hT, hk, n0 => simp [kidM] at hk
        | 20, hl, hT, hk, n0 => simp [kidM] at hk
        | 21, hl, hT, hk, n0 => simp [kidM] at hk
        | 22, hl, hT, hk, n0 => simp [kidM] at hk
        | 23, hl, hT, hk, n0 => simp [kidM] at hk
        | 24, hl, hT, hk, n0 => simp [kidM] at hk
        | 25, hl, hT, hk, n0 => simp [kidM] at hk
        | 26, hl, hT, hk, n0 => simp [kidM] at hk
        | 27, hl, hT, hk, n0 => simp [kidM] at hk
        | n + 28, hl, hT, hk, n0 => exact hl.elim
    obtain ⟨t, a', b', k'⟩ := q
    match t, hl, hT, hx, n0 with
    | 0, hl, hT, hx, n0 => exact hx
    | 1, hl, hT, hx, n0 => exact hx
    | 2, hl, hT, hx, n0 => exact hx
    | 3, hl, hT, hx, n0 => exact hx
    | 4, hl, hT, hx, n0 => exact hx
    | 5, hl, hT, hx, n0 => exact hx
    | 6, hl, hT, hx, n0 => exact hx
    | 7, hl, hT, hx, n0 =>
      have hx9 : ¬ a' = u := fun z => hT ((by obtain ⟨_, h2, h3⟩ := hl; have h2 : b' = 0 := h2; have h3 : k' = 0 := h3; subst z; subst h2; subst h3; rfl))
      exact hx
    | 8, hl, hT, hx, n0 =>
      have hx9 : ¬ (a' = u ∧ b' = k) := fun z => n0 (by obtain ⟨_, _, h3⟩ := hl; have h3 : k' = 0 := h3; obtain ⟨z1, z2⟩ := z; subst z1; subst z2; subst h3; rfl)
      show okA x 0 3 (fun f => f 0 = (upd2 s.m.rt u k r a' b').pfx ∧ f 1 = (upd2 s.m.rt u k r a' b').bits ∧ f 2 = (upd2 s.m.rt u k r a' b').peer)
      rw [upd2_n hx9]; exact hx
    | 9, hl, hT, hx, n0 => exact hx
    | 10, hl, hT, hx, n0 => exact hx
    | 11, hl, hT, hx, n0 => exact hx
    | 12, hl, hT, hx, n0 => exact hx
    | 13, hl, hT, hx, n0 => exact hx
    | 14, hl, hT, hx, n0 => exact hx
    | 15, hl, hT, hx, n0 => exact hx
    | 16, hl, hT, hx, n0 => exact hx
    | 17, hl, hT, hx, n0 => exact hx
    | 18, hl, hT, hx, n0 => exact hx
    | 19, hl, hT, hx, n0 => exact hx
    | 20, hl, hT, hx, n0 => exact hx
    | 21, hl, hT, hx, n0 => exact hx
    | 22, hl, hT, hx, n0 => exact hx
    | 23, hl, hT, hx, n0 => exact hx
    | 24, hl, hT, hx, n0 => exact hx
    | 25, hl, hT, hx, n0 => exact hx
    | 26, hl, hT, hx, n0 => exact hx
    | 27, hl, hT, hx, n0 => exact hx
    | n + 28, hl, hT, hx, n0 => exact hl.elim
theorem R.rt_app {A ad : Ro → Nat} {s : Wo} {w w' : Hp} {r : Rt} {u g : Nat} {f' : Nat → Option Nat} (h : R A ad s w) (he : u < 3) (ag : ∀ r, Lv s r → ad r ≠ g) (hg : okA (w' g) 0 3 (fun f => f 0 = r.pfx ∧ f 1 = r.bits ∧ f 2 = r.peer)) (hrt : w' (ad (m_rt1 u)) = Option.some (aP 7 8 f')) (hf : ∀ j, j < s.m.nr u → j ≠ (s.m.nr u) → f' j = Option.some (ad (m_rt2 u j))) (hfn : f' (s.m.nr u) = Option.some g) (hrou : okA (w' (ad m_rou)) 0 3 (fun f => ∀ i, i < 3 → f i = nI (upd1 s.m.nr u (s.m.nr u + 1) i)))
    (hw : ∀ q, q ≠ ad (m_rt1 u) → q ≠ ad m_rou → q ≠ g → w' q = w q)
    (hro : ∀ a, w' a = Option.some roE → a = ad c_e) : R A (srM ad (fun q => if q = (8, u, (s.m.nr u), 0) then .inr g else .inl q)) ((((s.s_m ((s.m.s_nr (upd1 s.m.nr u (s.m.nr u + 1))).s_rt (upd2 s.m.rt u (s.m.nr u) r))).s_th s.th).s_sm s.sm).s_o s.o) w' := by
  obtain ⟨src, hsrc⟩ : ∃ z : Rq → Rq ⊕ Nat, z = fun q => if q = (8, u, (s.m.nr u), 0) then .inr g else .inl q := ⟨_, rfl⟩
  rw [← hsrc]
  have m0 : src (8, u, (s.m.nr u), 0) = .inr g := by
    rw [hsrc]; show (if _ = _ then _ else _) = _
    rw [if_pos rfl]
  have mn : ∀ q, q ≠ (8, u, (s.m.nr u), 0) → src q = .inl q := by
    intro q n0
    rw [hsrc]
    show (if _ = _ then _ else _) = _
    rw [if_neg n0]
  have v0 : srM ad src (m_rt2 u (s.m.nr u)) = g := srM_n m0
  have vn : ∀ q, q ≠ (8, u, (s.m.nr u), 0) → srM ad src (.inr q) = ad (.inr q) := fun q n0 => srM_o (mn q n0)
  refine h.genM2 ((s.m.s_nr (upd1 s.m.nr u (s.m.nr u + 1))).s_rt (upd2 s.m.rt u (s.m.nr u) r)) s.th s.sm s.o src (fun q => q = (7, u, 0, 0) ∨ q = (2, 0, 0, 0)) ?_ ?_ ?_ ?_ ?_ ?_ ?_ hro
  · intro q hq
    exact mn q (fun z => by subst z; exact absurd (show false = true from hq) (by decide))
  · intro q q0 hl e
    by_cases n0 : q = (8, u, (s.m.nr u), 0)
    · subst n0; rw [m0] at e
      cases e
    rw [mn q n0] at e
    cases e
    obtain ⟨t, a', b', k'⟩ := q
    match t, hl, n0 with
    | 0, hl, n0 => exact hl
    | 1, hl, n0 => exact hl
    | 2, hl, n0 => exact hl
    | 3, hl, n0 => exact hl
    | 4, hl, n0 => exact hl
    | 5, hl, n0 => exact hl
    | 6, hl, n0 => exact hl
    | 7, hl, n0 => exact hl
    | 8, hl, n0 =>
      obtain ⟨h1, h2, h3⟩ := hl
      have h5 : b' < upd1 s.m.nr u (s.m.nr u + 1) a' := h2
      have h6 : k' = 0 := h3
      subst h6
      by_cases hx9 : a' = u
      · subst hx9
        rw [upd1_s] at h5
        have h4 : b' ≠ s.m.nr a' := fun z => n0 (by subst z; rfl)
        exact ⟨h1, by show b' < s.m.nr a'; omega, rfl⟩
      · rw [upd1_n hx9] at h5; exact ⟨h1, h5, rfl⟩
    | 9, hl, n0 => exact hl
    | 10, hl, n0 => exact hl
    | 11, hl, n0 => exact hl
    | 12, hl, n0 => exact hl
    | 13, hl, n0 => exact hl
    | 14, hl, n0 => exact hl
    | 15, hl, n0 => exact hl
    | 16, hl, n0 => exact hl
    | 17, hl, n0 => exact hl
    | 18, hl, n0 => exact hl
    | 19, hl, n0 => exact hl
    | 20, hl, n0 => exact hl
    | 21, hl, n0 => exact hl
    | 22, hl, n0 => exact hl
    | 23, hl, n0 => exact hl
    | 24, hl, n0 => exact hl
    | 25, hl, n0 => exact hl
    | 26, hl, n0 => exact hl
    | 27, hl, n0 => exact hl
    | n + 28, hl, n0 => exact hl.elim
  · intro q g hl e r hr
    by_cases n0 : q = (8, u, (s.m.nr u), 0)
    · subst n0; rw [m0] at e; cases e; exact ag r hr
    rw [mn q n0] at e; cases e
  · intro q q' hl hl' e
    by_cases n0 : q = (8, u, (s.m.nr u), 0)
    · subst n0; rw [m0] at e
      by_cases p0 : q' = (8, u, (s.m.nr u), 0)
      · exact p0.symm
      rw [mn q' p0] at e
      cases e
    rw [mn q n0] at e
    by_cases p0 : q' = (8, u, (s.m.nr u), 0)
    · subst p0; rw [m0] at e; cases e
    rw [mn q' p0] at e
    exact Sum.inl.inj e
  · intro r hl hT
    exact hw _ (fun z => hT _ (h.inj _ _ hl (show Lv s (m_rt1 u) from l_m_rt1 (s := s) he) z) (Or.inl rfl)) (fun z => hT _ (h.inj _ _ hl (show Lv s m_rou from l_m_rou (s := s)) z) (Or.inr rfl)) (ag r hl)
  · intro q hl hm
    by_cases n0 : q = (8, u, (s.m.nr u), 0)
    · subst n0
      rw [show srM ad src (.inr (8, u, (s.m.nr u), 0)) = g from v0]
      show okA (w' g) 0 3 (fun f => f 0 = (upd2 s.m.rt u (s.m.nr u) r u (s.m.nr u)).pfx ∧ f 1 = (upd2 s.m.rt u (s.m.nr u) r u (s.m.nr u)).bits ∧ f 2 = (upd2 s.m.rt u (s.m.nr u) r u (s.m.nr u)).peer)
      rw [upd2_s]; exact hg
    rcases hm with hm | hm
    · exact absurd (mn q n0) hm
    rcases hm with rfl | rfl
    · rw [show srM ad src (.inr (7, u, 0, 0)) = ad (m_rt1 u) from vn _ (fun z => by simp at z)]
      show okP (w' (ad (m_rt1 u))) 7 8 (upd1 s.m.nr u (s.m.nr u + 1) u) (fun j => srM ad src (m_rt2 u j))
      rw [upd1_s]
      refine ⟨f', hrt, fun j hj => ?_⟩
      by_cases hx9 : j = (s.m.nr u)
      · subst hx9; exact hfn.trans (congrArg Option.some v0.symm)
      · exact (hf j (by omega) hx9).trans (congrArg Option.some (vn (8, u, j, 0) (fun z => hx9 (by simpa using z))).symm)
    · rw [show srM ad src (.inr (2, 0, 0, 0)) = ad m_rou from vn _ (fun z => by simp at z)]
      exact hrou
  · intro q x hl hm hT hx
    have n0 : q ≠ (8, u, (s.m.nr u), 0) := fun z => by subst z; rw [m0] at hm; cases hm
    have hx : OkM s.m s.th s.sm s.o (srM ad src) x q := by
      refine OkM.congr2 (fun q9 hk => vn q9 (fun z => ?_)) hx
      · subst z
        obtain ⟨t, a', b', k'⟩ := q
        match t, hl, hT, hk, n0 with
        | 0, hl, hT, hk, n0 => simp [kidM] at hk
        | 1, hl, hT, hk, n0 => simp [kidM] at hk
        | 2, hl, hT, hk, n0 => simp [kidM] at hk
        | 3, hl, hT, hk, n0 => simp [kidM] at hk
        | 4, hl, hT, hk, n0 => simp [kidM] at hk
        | 5, hl, hT, hk, n0 => simp [kidM] at hk
        | 6, hl, hT, hk, n0 => simp [kidM] at hk
        | 7, hl, hT, hk, n0 =>
          obtain ⟨x9, hk⟩ := hk
          have h9 : a' = u := by
            simp at hk
            first | exact hk.1.symm | exact hk.1
          obtain ⟨_, h2, h3⟩ := hl
          have h2 : b' = 0 := h2
          have h3 : k' = 0 := h3
          subst h2; subst h3; subst h9
          exact hT (Or.inl rfl)
        | 8, hl, hT, hk, n0 => simp [kidM] at hk
        | 9, hl, hT, hk, n0 => simp [kidM] at hk
        | 10, hl, hT, hk, n0 => simp [kidM] at hk
        | 11, hl, hT, hk, n0 => simp [kidM] at hk
        | 12, hl, hT, hk, n0 => simp [kidM] at hk
        | 13, hl, hT, hk, n0 => simp [kidM] at hk
        | 14, hl, hT, hk, n0 => simp [kidM] at hk
        | 15, hl, hT, hk, n0 => simp [kidM] at hk
        | 16, hl, hT, hk, n0 => simp [kidM] at hk
        | 17, hl, hT, hk, n0 => simp [kidM] at hk
        | 18, hl, hT, hk, n0 => simp [kidM] at hk
        | 19, hl, hT, hk, n0 => simp [kidM] at hk
        | 20, hl, hT, hk, n0 => simp [kidM] at hk
        | 21, hl, hT, hk, n0 => simp [kidM] at hk
        | 22, hl, hT, hk, n0 => simp [kidM] at hk
        | 23, hl, hT, hk, n0 => simp [kidM] at hk
        | 24, hl, hT, hk, n0 => simp [kidM] at hk
        | 25, hl, hT, hk, n0 => simp [kidM] at hk
        | 26, hl, hT, hk, n0 => simp [kidM] at hk
        | 27, hl, hT, hk, n0 => simp [kidM] at hk
        | n + 28, hl, hT, hk, n0 => exact hl.elim
    obtain ⟨t, a', b', k'⟩ := q
    match t, hl, hT, hx, n0 with
    | 0, hl, hT, hx, n0 => exact hx
    | 1, hl, hT, hx, n0 => exact hx
    | 2, hl, hT, hx, n0 => exact absurd (Or.inr (by obtain ⟨h1, h2, h3⟩ := hl; have h1 : a' = 0 := h1; have h2 : b' = 0 := h2; have h3 : k' = 0 := h3; subst h1; subst h2; subst h3; rfl)) hT
    | 3, hl, hT, hx, n0 => exact hx
    | 4, hl, hT, hx, n0 => exact hx
    | 5, hl, hT, hx, n0 => exact hx
    | 6, hl, hT, hx, n0 => exact hx
    | 7, hl, hT, hx, n0 =>
      have hx9 : ¬ a' = u := fun z => hT (Or.inl (by obtain ⟨_, h2, h3⟩ := hl; have h2 : b' = 0 := h2; have h3 : k' = 0 := h3; subst z; subst h2; subst h3; rfl))
      show okP x 7 8 (upd1 s.m.nr u (s.m.nr u + 1) a') _
      rw [upd1_n hx9]; exact hx
    | 8, hl, hT, hx, n0 =>
      have hx9 : ¬ (a' = u ∧ b' = (s.m.nr u)) := fun z => n0 (by obtain ⟨_, _, h3⟩ := hl; have h3 : k' = 0 := h3; obtain ⟨z1, z2⟩ := z; subst z1; subst z2; subst h3; rfl)
      show okA x 0 3 (fun f => f 0 = (upd2 s.m.rt u (s.m.nr u) r a' b').pfx ∧ f 1 = (upd2 s.m.rt u (s.m.nr u) r a' b').bits ∧ f 2 = (upd2 s.m.rt u (s.m.nr u) r a' b').peer)
      rw [upd2_n hx9]; exact hx
    | 9, hl, hT, hx, n0 => exact hx
    | 10, hl, hT, hx, n0 => exact hx
    | 11, hl, hT, hx, n0 => exact hx
    | 12, hl, hT, hx, n0 => exact hx
    | 13, hl, hT, hx, n0 => exact hx
    | 14, hl, hT, hx, n0 => exact hx
    | 15, hl, hT, hx, n0 => exact hx
    | 16, hl, hT, hx, n0 => exact hx
    | 17, hl, hT, hx, n0 => exact hx
    | 18, hl, hT, hx, n0 => exact hx
    | 19, hl, hT, hx, n0 => exact hx
    | 20, hl, hT, hx, n0 => exact hx
    | 21, hl, hT, hx, n0 => exact hx
    | 22, hl, hT, hx, n0 => exact hx
    | 23, hl, hT, hx, n0 => exact hx
    | 24, hl, hT, hx, n0 => exact hx
    | 25, hl, hT, hx, n0 => exact hx
    | 26, hl, hT, hx, n0 => exact hx
    | 27, hl, hT, hx, n0 => exact hx
    | n + 28, hl, hT, hx, n0 => exact hl.elim
theorem R.rt_del {A ad : Ro → Nat} {s : Wo} {w w' : Hp} {u i : Nat} {f' : Nat → Option Nat} {rt' : Nat → Nat → Rt} (h : R A ad s w) (he : u < 3) (hi : i < s.m.nr u) (hrt' : ∀ k, k < s.m.nr u - 1 → rt' u k = s.m.rt u (if k < i then k else k + 1)) (hoth : ∀ e', ¬ e' = u → rt' e' = s.m.rt e') (hrt : w' (ad (m_rt1 u)) = Option.some (aP 7 8 f')) (hf : ∀ k, k < s.m.nr u - 1 → f' k = Option.some (ad (m_rt2 u (if k < i then k else k + 1)))) (hrou : okA (w' (ad m_rou)) 0 3 (fun f => ∀ j, j < 3 → f j = nI (upd1 s.m.nr u (s.m.nr u - 1) j)))
    (hw : ∀ q, q ≠ ad (m_rt1 u) → q ≠ ad m_rou → w' q = w q)
    (hro : ∀ a, w' a = Option.some roE → a = ad c_e) : R A (srM ad (fun q => if q.1 = 8 ∧ q.2.1 = u ∧ i ≤ q.2.2.1 then .inl (q.1, q.2.1, q.2.2.1 + 1, q.2.2.2) else .inl q)) ((((s.s_m ((s.m.s_nr (upd1 s.m.nr u (s.m.nr u - 1))).s_rt rt')).s_th s.th).s_sm s.sm).s_o s.o) w' := by
  obtain ⟨src, hsrc⟩ : ∃ z : Rq → Rq ⊕ Nat, z = fun q => if q.1 = 8 ∧ q.2.1 = u ∧ i ≤ q.2.2.1 then .inl (q.1, q.2.1, q.2.2.1 + 1, q.2.2.2) else .inl q := ⟨_, rfl⟩
  rw [← hsrc]
  have my : ∀ q : Rq, q.1 = 8 ∧ q.2.1 = u ∧ i ≤ q.2.2.1 → src q = .inl (q.1, q.2.1, q.2.2.1 + 1, q.2.2.2) := fun q hq => by rw [hsrc]; exact if_pos hq
  have mn : ∀ q : Rq, ¬ (q.1 = 8 ∧ q.2.1 = u ∧ i ≤ q.2.2.1) → src q = .inl q := fun q hq => by rw [hsrc]; exact if_neg hq
  have vy : ∀ q : Rq, q.1 = 8 ∧ q.2.1 = u ∧ i ≤ q.2.2.1 → srM ad src (.inr q) = ad (.inr (q.1, q.2.1, q.2.2.1 + 1, q.2.2.2)) := fun q hq => srM_o (my q hq)
  have vn : ∀ q : Rq, ¬ (q.1 = 8 ∧ q.2.1 = u ∧ i ≤ q.2.2.1) → srM ad src (.inr q) = ad (.inr q) := fun q hq => srM_o (mn q hq)
  have lvs : ∀ q : Rq, LvM ((s.m.s_nr (upd1 s.m.nr u (s.m.nr u - 1))).s_rt rt') q → q.1 = 8 ∧ q.2.1 = u ∧ i ≤ q.2.2.1 → LvM s.m (q.1, q.2.1, q.2.2.1 + 1, q.2.2.2) := by
    rintro ⟨t, a', b', k'⟩ hl ⟨z1, z2, z3⟩
    have z1 : t = 8 := z1
    have z2 : a' = u := z2
    subst z1; subst z2
    obtain ⟨h1, h2, h3⟩ := hl
    have h5 : b' < upd1 s.m.nr a' (s.m.nr a' - 1) a' := h2
    rw [upd1_s] at h5
    exact ⟨h1, by show b' + 1 < s.m.nr a'; omega, h3⟩
  refine h.genM2 ((s.m.s_nr (upd1 s.m.nr u (s.m.nr u - 1))).s_rt rt') s.th s.sm s.o src (fun q => q = (7, u, 0, 0) ∨ q = (2, 0, 0, 0)) ?_ ?_ ?_ ?_ ?_ ?_ ?_ hro
  · intro q hq
    refine mn q (fun z => ?_)
    obtain ⟨t, q2⟩ := q
    have z1 : t = 8 := z.1
    subst z1; exact absurd (show false = true from hq) (by decide)
  · intro q q0 hl e
    by_cases n0 : q.1 = 8 ∧ q.2.1 = u ∧ i ≤ q.2.2.1
    · rw [my q n0] at e; cases e; exact lvs q hl n0
    rw [mn q n0] at e; cases e
    obtain ⟨t, a', b', k'⟩ := q
    match t, hl, n0 with
    | 0, hl, n0 => exact hl
    | 1, hl, n0 => exact hl
    | 2, hl, n0 => exact hl
    | 3, hl, n0 => exact hl
    | 4, hl, n0 => exact hl
    | 5, hl, n0 => exact hl
    | 6, hl, n0 => exact hl
    | 7, hl, n0 => exact hl
    | 8, hl, n0 =>
      obtain ⟨h1, h2, h3⟩ := hl
      have h5 : b' < upd1 s.m.nr u (s.m.nr u - 1) a' := h2
      by_cases hx9 : a' = u
      · subst hx9; rw [upd1_s] at h5; exact ⟨h1, by show b' < s.m.nr a'; omega, h3⟩
      · rw [upd1_n hx9] at h5; exact ⟨h1, h5, h3⟩
    | 9, hl, n0 => exact hl
    | 10, hl, n0 => exact hl
    | 11, hl, n0 => exact hl
    | 12, hl, n0 => exact hl
    | 13, hl, n0 => exact hl
    | 14, hl, n0 => exact hl
    | 15, hl, n0 => exact hl
    | 16, hl, n0 => exact hl
    | 17, hl, n0 => exact hl
    | 18, hl, n0 => exact hl
    | 19, hl, n0 => exact hl
    | 20, hl, n0 => exact hl
    | 21, hl, n0 => exact hl
    | 22, hl, n0 => exact hl
    | 23, hl, n0 => exact hl
    | 24, hl, n0 => exact hl
    | 25, hl, n0 => exact hl
    | 26, hl, n0 => exact hl
    | 27, hl, n0 => exact hl
    | n + 28, hl, n0 => exact hl.elim
  · intro q g hl e r hr
    by_cases n0 : q.1 = 8 ∧ q.2.1 = u ∧ i ≤ q.2.2.1
    · rw [my q n0] at e; cases e
    · rw [mn q n0] at e; cases e
  · intro q q' hl hl' e
    obtain ⟨t, a1, b1, k1⟩ := q
    obtain ⟨t', a2, b2, k2⟩ := q'
    by_cases n0 : ((t, a1, b1, k1) : Rq).1 = 8 ∧ ((t, a1, b1, k1) : Rq).2.1 = u ∧ i ≤ ((t, a1, b1, k1) : Rq).2.2.1 <;> by_cases n1 : ((t', a2, b2, k2) : Rq).1 = 8 ∧ ((t', a2, b2, k2) : Rq).2.1 = u ∧ i ≤ ((t', a2, b2, k2) : Rq).2.2.1
    · rw [my _ n0, my _ n1] at e; have e := Sum.inl.inj e; simp only [Prod.mk.injEq] at e n0 n1 ⊢; omega
    · rw [my _ n0, mn _ n1] at e; have e := Sum.inl.inj e; simp only [Prod.mk.injEq] at e n0 n1 ⊢; omega
    · rw [mn _ n0, my _ n1] at e; have e := Sum.inl.inj e; simp only [Prod.mk.injEq] at e n0 n1 ⊢; omega
    · rw [mn _ n0, mn _ n1] at e; have e := Sum.inl.inj e; simp only [Prod.mk.injEq] at e n0 n1 ⊢; omega
  · intro r hl hT
    exact hw _ (fun z => hT _ (h.inj _ _ hl (show Lv s (m_rt1 u) from l_m_rt1 (s := s) he) z) (Or.inl rfl)) (fun z => hT _ (h.inj _ _ hl (show Lv s m_rou from l_m_rou (s := s)) z) (Or.inr rfl))
  · intro q hl hm
    by_cases n0 : q.1 = 8 ∧ q.2.1 = u ∧ i ≤ q.2.2.1
    · have l0 := lvs q hl n0
      rw [vy q n0, hw _ (fun z => by have z1 := congrArg Prod.fst (Sum.inr.inj (h.inj _ _ (show Lv s (.inr _) from l0) (show Lv s (m_rt1 u) from l_m_rt1 (s := s) he) z)); have z2 := n0.1; simp only [] at z1; rw [z2] at z1; cases z1) (fun z => by have z1 := congrArg Prod.fst (Sum.inr.inj (h.inj _ _ (show Lv s (.inr _) from l0) (show Lv s m_rou from l_m_rou (s := s)) z)); have z2 := n0.1; simp only [] at z1; rw [z2] at z1; cases z1)]
      have ok := h.ok _ (show Lv s (.inr _) from l0)
      obtain ⟨t, a', b', k'⟩ := q
      have z1 : t = 8 := n0.1
      subst z1
      have z2 : a' = u := n0.2.1
      have z3 : i ≤ b' := n0.2.2
      obtain ⟨_, h2, h3⟩ := hl
      have h5 : b' < upd1 s.m.nr u (s.m.nr u - 1) a' := h2
      have h6 : k' = 0 := h3
      subst h6; subst z2
      rw [upd1_s] at h5
      show okA (w (ad (m_rt2 a' (b' + 1)))) 0 3 (fun f => f 0 = (rt' a' b').pfx ∧ f 1 = (rt' a' b').bits ∧ f 2 = (rt' a' b').peer)
      rw [hrt' b' h5, if_neg (by omega)]; exact ok
    rcases hm with hm | hm
    · exact absurd (mn q n0) hm
    rcases hm with rfl | rfl
    · rw [show srM ad src (.inr (7, u, 0, 0)) = ad (m_rt1 u) from vn _ (fun z => by have z1 := z.1; cases z1)]
      show okP (w' (ad (m_rt1 u))) 7 8 (upd1 s.m.nr u (s.m.nr u - 1) u) (fun k => srM ad src (m_rt2 u k))
      rw [upd1_s]
      refine ⟨f', hrt, fun k hk => (hf k hk).trans (congrArg Option.some ?_)⟩
      by_cases hx9 : k < i
      · rw [if_pos hx9]; exact (vn (8, u, k, 0) (fun z => absurd z.2.2 (by show ¬ i ≤ k; omega))).symm
      · rw [if_neg hx9]; exact (vy (8, u, k, 0) ⟨rfl, rfl, by show i ≤ k; omega⟩).symm
    · rw [show srM ad src (.inr (2, 0, 0, 0)) = ad m_rou from vn _ (fun z => by have z1 := z.1; cases z1)]
      exact hrou
  · intro q x hl hm hT hx
    have n0 : ¬ (q.1 = 8 ∧ q.2.1 = u ∧ i ≤ q.2.2.1) := fun z => by
      rw [my q z] at hm; obtain ⟨t, a', b', k'⟩ := q; have e := Sum.inl.inj hm; simp only [Prod.mk.injEq] at e; omega
    have hx : OkM s.m s.th s.sm s.o (srM ad src) x q := by
      refine OkM.congr2 (fun q9 hk => vn q9 (fun z => ?_)) hx
      obtain ⟨t, a', b', k'⟩ := q
      match t, hl, hT, hk, n0 with
      | 0, hl, hT, hk, n0 => rcases hk with rfl | rfl | rfl | rfl | rfl | rfl | rfl | rfl | rfl | rfl | rfl | rfl | rfl | rfl | rfl | rfl | rfl | rfl | rfl | rfl | rfl <;> (have z1 := z.1; cases z1)
      | 1, hl, hT, hk, n0 => exact hk.elim
      | 2, hl, hT, hk, n0 => exact hk.elim
      | 3, hl, hT, hk, n0 => exact hk.elim
      | 4, hl, hT, hk, n0 => exact hk.elim
      | 5, hl, hT, hk, n0 => exact hk.elim
      | 6, hl, hT, hk, n0 => rcases hk with ⟨x9, rfl⟩ <;> (have z1 := z.1; cases z1)
      | 7, hl, hT, hk, n0 =>
        obtain ⟨x9, hk⟩ := hk
        subst hk
        have h9 : a' = u := z.2.1
        obtain ⟨_, h2, h3⟩ := hl
        have h2 : b' = 0 := h2
        have h3 : k' = 0 := h3
        subst h2; subst h3; subst h9
        exact hT (Or.inl rfl)
      | 8, hl, hT, hk, n0 => exact hk.elim
      | 9, hl, hT, hk, n0 => rcases hk with ⟨x9, rfl⟩ <;> (have z1 := z.1; cases z1)
      | 10, hl, hT, hk, n0 => exact hk.elim
      | 11, hl, hT, hk, n0 => rcases hk with ⟨x9, rfl⟩ <;> (have z1 := z.1; cases z1)
      | 12, hl, hT, hk, n0 => rcases hk with ⟨x9, rfl⟩ <;> (have z1 := z.1; cases z1)
      | 13, hl, hT, hk, n0 => rcases hk with ⟨x9, rfl⟩ <;> (have z1 := z.1; cases z1)
      | 14, hl, hT, hk, n0 => exact hk.elim
      | 15, hl, hT, hk, n0 => rcases hk with ⟨x9, rfl⟩ <;> (have z1 := z.1; cases z1)
      | 16, hl, hT, hk, n0 => rcases hk with ⟨x9, rfl⟩ <;> (have z1 := z.1; cases z1)
      | 17, hl, hT, hk, n0 => rcases hk with ⟨x9, rfl⟩ <;> (have z1 := z.1; cases z1)
      | 18, hl, hT, hk, n0 => exact hk.elim
      | 19, hl, hT, hk, n0 => rcases hk with ⟨x9, rfl⟩ <;> (have z1 := z.1; cases z1)
      | 20, hl, hT, hk, n0 => rcases hk with ⟨x9, rfl⟩ <;> (have z1 := z.1; cases z1)
      | 21, hl, hT, hk, n0 => rcases hk with ⟨x9, rfl⟩ <;> (have z1 := z.1; cases z1)
      | 22, hl, hT, hk, n0 => exact hk.elim
      | 23, hl, hT, hk, n0 => rcases hk with ⟨x9, rfl⟩ <;> (have z1 := z.1; cases z1)
      | 24, hl, hT, hk, n0 => exact hk.elim
      | 25, hl, hT, hk, n0 => rcases hk with ⟨x9, rfl⟩ <;> (have z1 := z.1; cases z1)
      | 26, hl, hT, hk, n0 => exact hk.elim
      | 27, hl, hT, hk, n0 => exact hk.elim
      | n + 28, hl, hT, hk, n0 => exact hl.elim
    obtain ⟨t, a', b', k'⟩ := q
    match t, hl, hT, hx, n0 with
    | 0, hl, hT, hx, n0 => exact hx
    | 1, hl, hT, hx, n0 => exact hx
    | 2, hl, hT, hx, n0 => exact absurd (Or.inr (by obtain ⟨h1, h2, h3⟩ := hl; have h1 : a' = 0 := h1; have h2 : b' = 0 := h2; have h3 : k' = 0 := h3; subst h1; subst h2; subst h3; rfl)) hT
    | 3, hl, hT, hx, n0 => exact hx
    | 4, hl, hT, hx, n0 => exact hx
    | 5, hl, hT, hx, n0 => exact hx
    | 6, hl, hT, hx, n0 => exact hx
    | 7, hl, hT, hx, n0 =>
      have hx9 : ¬ a' = u := fun z => hT (Or.inl (by obtain ⟨_, h2, h3⟩ := hl; have h2 : b' = 0 := h2; have h3 : k' = 0 := h3; subst z; subst h2; subst h3; rfl))
      show okP x 7 8 (upd1 s.m.nr u _ a') _
      rw [upd1_n hx9]; exact hx
    | 8, hl, hT, hx, n0 =>
      obtain ⟨_, h2, h3⟩ := hl
      have h5 : b' < upd1 s.m.nr u (s.m.nr u - 1) a' := h2
      show okA x 0 3 (fun f => f 0 = (rt' a' b').pfx ∧ f 1 = (rt' a' b').bits ∧ f 2 = (rt' a' b').peer)
      by_cases hx9 : a' = u
      · subst hx9
        rw [upd1_s] at h5
        have h4 : b' < i := Nat.not_le.mp (fun z => n0 ⟨rfl, rfl, z⟩)
        rw [hrt' b' h5, if_pos h4]; exact hx
      · rw [hoth a' hx9]; exact hx
    | 9, hl, hT, hx, n0 => exact hx
    | 10, hl, hT, hx, n0 => exact hx
    | 11, hl, hT, hx, n0 => exact hx
    | 12, hl, hT, hx, n0 => exact hx
    | 13, hl, hT, hx, n0 => exact hx
    | 14, hl, hT, hx, n0 => exact hx
    | 15, hl, hT, hx, n0 => exact hx
    | 16, hl, hT, hx, n0 => exact hx
    | 17, hl, hT, hx, n0 => exact hx
    | 18, hl, hT, hx, n0 => exact hx
    | 19, hl, hT, hx, n0 => exact hx
    | 20, hl, hT, hx, n0 => exact hx
    | 21, hl, hT, hx, n0 => exact hx
    | 22, hl, hT, hx, n0 => exact hx
    | 23, hl, hT, hx, n0 => exact hx
    | 24, hl, hT, hx, n0 => exact hx
    | 25, hl, hT, hx, n0 => exact hx
    | 26, hl, hT, hx, n0 => exact hx
    | 27, hl, hT, hx, n0 => exact hx
    | n + 28, hl, hT, hx, n0 => exact hl.elim
