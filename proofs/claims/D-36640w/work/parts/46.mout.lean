/-! THE PLAIN LAW, 16: what came out, on the side of the plain tables (printed by gen/mkspec10.py) -/
set_option maxRecDepth 100000
theorem R.mo_add {A ad : Ro → Nat} {s : Wo} {w w' : Hp} {G : Go} {g d' : Nat} {f' : Nat → Option Nat} (h : R A ad s w) (ag : ∀ r, Lv s r → ad r ≠ g) (aD : ∀ r, Lv s r → ad r ≠ d') (hne : d' ≠ g) (hg : okA (w' g) 0 5 (fun f => f 0 = nI G.e ∧ f 1 = G.peer ∧ f 2 = G.src ∧ f 3 = G.dst ∧ f 4 = G.ld)) (hD : w' d' = Option.some (aP 7 (s.m.go.length + 1) f')) (hf : ∀ k, k < s.m.go.length → f' k = Option.some (ad (m_ou1 k))) (hfn : f' s.m.go.length = Option.some g) (htop : w' (ad m_top) = Option.some (.inr (3, [.int s.m.now, .int (nI (s.m.made + 1)), .int s.th, .int s.m.dlv, rf (ad m_addr), rf (ad m_rou), rf (ad m_outs), rf (ad m_co), rf (ad m_ld), rf (ad m_rt0), rf (ad (m_mx 0)), rf (ad (m_mx 1)), rf (ad (m_mx 2)), rf (ad (m_mx 3)), rf (ad (m_mx 4)), rf (ad (m_mx 5)), rf (ad (m_mx 6)), rf (ad (m_mx 7)), rf (ad (m_mx 8)), rf (ad (m_mx 9)), rf (ad m_pk0), rf (ad m_se0), rf (ad m_tk0), rf (ad m_le), .int (nI s.m.nl), rf d', .long s.sm]))) (hou : okA (w' (ad m_outs)) 0 3 (fun f => ∀ e, e < 3 → f e = nI ((s.m.s_go (s.m.go ++ [G])).po e).length))
    (hw : ∀ q, q ≠ ad m_top → q ≠ ad m_outs → q ≠ d' → q ≠ g → w' q = w q)
    (hro : ∀ a, w' a = Option.some roE → a = ad c_e) : R A (srM ad (fun q => if q = (25, 0, 0, 0) then .inr d' else if q = (26, s.m.go.length, 0, 0) then .inr g else .inl q)) ((((s.s_m (s.m.s_go (s.m.go ++ [G]))).s_th s.th).s_sm s.sm).s_o s.o) w' := by
  obtain ⟨src, hsrc⟩ : ∃ z : Rq → Rq ⊕ Nat, z = fun q => if q = (25, 0, 0, 0) then .inr d' else if q = (26, s.m.go.length, 0, 0) then .inr g else .inl q := ⟨_, rfl⟩
  rw [← hsrc]
  have m0 : src (25, 0, 0, 0) = .inr d' := by
    rw [hsrc]; show (if _ = _ then _ else _) = _
    rw [if_pos rfl]
  have m1 : src (26, s.m.go.length, 0, 0) = .inr g := by
    rw [hsrc]; show (if _ = _ then _ else _) = _
    rw [if_neg (fun z => by simp at z)]
    rw [if_pos rfl]
  have mn : ∀ q, q ≠ (25, 0, 0, 0) → q ≠ (26, s.m.go.length, 0, 0) → src q = .inl q := by
    intro q n0 n1
    rw [hsrc]
    show (if _ = _ then _ else _) = _
    rw [if_neg n0, if_neg n1]
  have v0 : srM ad src m_out = d' := srM_n m0
  have v1 : srM ad src (m_ou1 s.m.go.length) = g := srM_n m1
  have vn : ∀ q, q ≠ (25, 0, 0, 0) → q ≠ (26, s.m.go.length, 0, 0) → srM ad src (.inr q) = ad (.inr q) := fun q n0 n1 => srM_o (mn q n0 n1)
  refine h.genM2 (s.m.s_go (s.m.go ++ [G])) s.th s.sm s.o src (fun q => q = (0, 0, 0, 0) ∨ q = (3, 0, 0, 0)) ?_ ?_ ?_ ?_ ?_ ?_ ?_ hro
  · intro q hq
    exact mn q (fun z => by subst z; exact absurd (show false = true from hq) (by decide)) (fun z => by subst z; exact absurd (show false = true from hq) (by decide))
  · intro q q0 hl e
    by_cases n0 : q = (25, 0, 0, 0)
    · subst n0; rw [m0] at e
      cases e
    by_cases n1 : q = (26, s.m.go.length, 0, 0)
    · subst n1; rw [m1] at e
      cases e
    rw [mn q n0 n1] at e
    cases e
    obtain ⟨t, a', b', k'⟩ := q
    match t, hl, n0, n1 with
    | 0, hl, n0, n1 => exact hl
    | 1, hl, n0, n1 => exact hl
    | 2, hl, n0, n1 => exact hl
    | 3, hl, n0, n1 => exact hl
    | 4, hl, n0, n1 => exact hl
    | 5, hl, n0, n1 => exact hl
    | 6, hl, n0, n1 => exact hl
    | 7, hl, n0, n1 => exact hl
    | 8, hl, n0, n1 => exact hl
    | 9, hl, n0, n1 => exact hl
    | 10, hl, n0, n1 => exact hl
    | 11, hl, n0, n1 => exact hl
    | 12, hl, n0, n1 => exact hl
    | 13, hl, n0, n1 => exact hl
    | 14, hl, n0, n1 => exact hl
    | 15, hl, n0, n1 => exact hl
    | 16, hl, n0, n1 => exact hl
    | 17, hl, n0, n1 => exact hl
    | 18, hl, n0, n1 => exact hl
    | 19, hl, n0, n1 => exact hl
    | 20, hl, n0, n1 => exact hl
    | 21, hl, n0, n1 => exact hl
    | 22, hl, n0, n1 => exact hl
    | 23, hl, n0, n1 => exact hl
    | 24, hl, n0, n1 => exact hl
    | 25, hl, n0, n1 => exact hl
    | 26, hl, n0, n1 =>
      obtain ⟨h1, h2, h3⟩ := hl
      have h5 : a' < (s.m.go ++ [G]).length := h1
      have h2 : b' = 0 := h2
      have h3 : k' = 0 := h3
      subst h2; subst h3
      simp at h5
      have h4 : a' ≠ s.m.go.length := fun z => n1 (by subst z; rfl)
      exact ⟨by show a' < s.m.go.length; omega, rfl, rfl⟩
    | 27, hl, n0, n1 => exact hl
    | n + 28, hl, n0, n1 => exact hl.elim
  · intro q g hl e r hr
    by_cases n0 : q = (25, 0, 0, 0)
    · subst n0; rw [m0] at e; cases e; exact aD r hr
    by_cases n1 : q = (26, s.m.go.length, 0, 0)
    · subst n1; rw [m1] at e; cases e; exact ag r hr
    rw [mn q n0 n1] at e; cases e
  · intro q q' hl hl' e
    by_cases n0 : q = (25, 0, 0, 0)
    · subst n0; rw [m0] at e
      by_cases p0 : q' = (25, 0, 0, 0)
      · exact p0.symm
      by_cases p1 : q' = (26, s.m.go.length, 0, 0)
      · subst p1; rw [m1] at e; first | exact absurd (Sum.inr.inj e) hne | exact absurd (Sum.inr.inj e).symm hne
      rw [mn q' p0 p1] at e
      cases e
    by_cases n1 : q = (26, s.m.go.length, 0, 0)
    · subst n1; rw [m1] at e
      by_cases p0 : q' = (25, 0, 0, 0)
      · subst p0; rw [m0] at e; first | exact absurd (Sum.inr.inj e) hne | exact absurd (Sum.inr.inj e).symm hne
      by_cases p1 : q' = (26, s.m.go.length, 0, 0)
      · exact p1.symm
      rw [mn q' p0 p1] at e
      cases e
    rw [mn q n0 n1] at e
    by_cases p0 : q' = (25, 0, 0, 0)
    · subst p0; rw [m0] at e; cases e
    by_cases p1 : q' = (26, s.m.go.length, 0, 0)
    · subst p1; rw [m1] at e; cases e
    rw [mn q' p0 p1] at e
    exact Sum.inl.inj e
  · intro r hl hT
    exact hw _ (fun z => hT _ (h.inj _ _ hl (show Lv s m_top from l_m_top (s := s)) z) (Or.inl rfl)) (fun z => hT _ (h.inj _ _ hl (show Lv s m_outs from l_m_outs (s := s)) z) (Or.inr rfl)) (aD r hl) (ag r hl)
  · intro q hl hm
    by_cases n0 : q = (25, 0, 0, 0)
    · subst n0
      rw [show srM ad src (.inr (25, 0, 0, 0)) = d' from v0]
      show okP (w' d') 7 (s.m.go ++ [G]).length (s.m.go ++ [G]).length (fun k => srM ad src (m_ou1 k))
      rw [List.length_append]
      refine ⟨f', hD, fun k hk => ?_⟩
      have hk : k < s.m.go.length + 1 := hk
      by_cases hx9 : k = s.m.go.length
      · subst hx9; exact hfn.trans (congrArg Option.some v1.symm)
      · exact (hf k (by omega)).trans (congrArg Option.some (vn (26, k, 0, 0) (fun z => by simp at z) (fun z => hx9 (by simpa using z))).symm)
    by_cases n1 : q = (26, s.m.go.length, 0, 0)
    · subst n1
      rw [show srM ad src (.inr (26, s.m.go.length, 0, 0)) = g from v1]
      show okA (w' g) 0 5 (fun f => ∀ g9, (s.m.go ++ [G])[s.m.go.length]? = Option.some g9 → f 0 = nI g9.e ∧ f 1 = g9.peer ∧ f 2 = g9.src ∧ f 3 = g9.dst ∧ f 4 = g9.ld)
      obtain ⟨f9, h1, h2⟩ := hg
      refine ⟨f9, h1, fun g9 hg9 => ?_⟩
      simp at hg9
      subst hg9; exact h2
    rcases hm with hm | hm
    · exact absurd (mn q n0 n1) hm
    rcases hm with rfl | rfl
    · have t0 : srM ad src m_addr = ad m_addr := vn (1, 0, 0, 0) (fun z => by simp at z) (fun z => by simp at z)
      have t1 : srM ad src m_rou = ad m_rou := vn (2, 0, 0, 0) (fun z => by simp at z) (fun z => by simp at z)
      have t2 : srM ad src m_outs = ad m_outs := vn (3, 0, 0, 0) (fun z => by simp at z) (fun z => by simp at z)
      have t3 : srM ad src m_co = ad m_co := vn (4, 0, 0, 0) (fun z => by simp at z) (fun z => by simp at z)
      have t4 : srM ad src m_ld = ad m_ld := vn (5, 0, 0, 0) (fun z => by simp at z) (fun z => by simp at z)
      have t5 : srM ad src m_rt0 = ad m_rt0 := vn (6, 0, 0, 0) (fun z => by simp at z) (fun z => by simp at z)
      have t6 : srM ad src (m_mx 0) = ad (m_mx 0) := vn (9, 0, 0, 0) (fun z => by simp at z) (fun z => by simp at z)
      have t7 : srM ad src (m_mx 1) = ad (m_mx 1) := vn (9, 1, 0, 0) (fun z => by simp at z) (fun z => by simp at z)
      have t8 : srM ad src (m_mx 2) = ad (m_mx 2) := vn (9, 2, 0, 0) (fun z => by simp at z) (fun z => by simp at z)
      have t9 : srM ad src (m_mx 3) = ad (m_mx 3) := vn (9, 3, 0, 0) (fun z => by simp at z) (fun z => by simp at z)
      have t10 : srM ad src (m_mx 4) = ad (m_mx 4) := vn (9, 4, 0, 0) (fun z => by simp at z) (fun z => by simp at z)
      have t11 : srM ad src (m_mx 5) = ad (m_mx 5) := vn (9, 5, 0, 0) (fun z => by simp at z) (fun z => by simp at z)
      have t12 : srM ad src (m_mx 6) = ad (m_mx 6) := vn (9, 6, 0, 0) (fun z => by simp at z) (fun z => by simp at z)
      have t13 : srM ad src (m_mx 7) = ad (m_mx 7) := vn (9, 7, 0, 0) (fun z => by simp at z) (fun z => by simp at z)
      have t14 : srM ad src (m_mx 8) = ad (m_mx 8) := vn (9, 8, 0, 0) (fun z => by simp at z) (fun z => by simp at z)
      have t15 : srM ad src (m_mx 9) = ad (m_mx 9) := vn (9, 9, 0, 0) (fun z => by simp at z) (fun z => by simp at z)
      have t16 : srM ad src m_pk0 = ad m_pk0 := vn (11, 0, 0, 0) (fun z => by simp at z) (fun z => by simp at z)
      have t17 : srM ad src m_se0 = ad m_se0 := vn (15, 0, 0, 0) (fun z => by simp at z) (fun z => by simp at z)
      have t18 : srM ad src m_tk0 = ad m_tk0 := vn (19, 0, 0, 0) (fun z => by simp at z) (fun z => by simp at z)
      have t19 : srM ad src m_le = ad m_le := vn (23, 0, 0, 0) (fun z => by simp at z) (fun z => by simp at z)
      have tt : srM ad src m_top = ad m_top := vn (0, 0, 0, 0) (fun z => by simp at z) (fun z => by simp at z)
      show w' (srM ad src m_top) = Option.some (.inr (3, [.int s.m.now, .int (nI (s.m.made + 1)), .int s.th, .int s.m.dlv, rf (srM ad src m_addr), rf (srM ad src m_rou), rf (srM ad src m_outs), rf (srM ad src m_co), rf (srM ad src m_ld), rf (srM ad src m_rt0), rf (srM ad src (m_mx 0)), rf (srM ad src (m_mx 1)), rf (srM ad src (m_mx 2)), rf (srM ad src (m_mx 3)), rf (srM ad src (m_mx 4)), rf (srM ad src (m_mx 5)), rf (srM ad src (m_mx 6)), rf (srM ad src (m_mx 7)), rf (srM ad src (m_mx 8)), rf (srM ad src (m_mx 9)), rf (srM ad src m_pk0), rf (srM ad src m_se0), rf (srM ad src m_tk0), rf (srM ad src m_le), .int (nI s.m.nl), rf (srM ad src m_out), .long s.sm]))
      rw [tt, t0, t1, t2, t3, t4, t5, t6, t7, t8, t9, t10, t11, t12, t13, t14, t15, t16, t17, t18, t19, v0]
      exact htop
    · rw [show srM ad src (.inr (3, 0, 0, 0)) = ad m_outs from vn _ (fun z => by simp at z) (fun z => by simp at z)]
      exact hou
  · intro q x hl hm hT hx
    have n0 : q ≠ (25, 0, 0, 0) := fun z => by subst z; rw [m0] at hm; cases hm
    have n1 : q ≠ (26, s.m.go.length, 0, 0) := fun z => by subst z; rw [m1] at hm; cases hm
    have hx : OkM s.m s.th s.sm s.o (srM ad src) x q := by
      refine OkM.congr2 (fun q9 hk => vn q9 (fun z => ?_) (fun z => ?_)) hx
      · subst z
        obtain ⟨t, a', b', k'⟩ := q
        match t, hl, hT, hk, n0, n1 with
        | 0, hl, hT, hk, n0, n1 =>
          obtain ⟨h1, h2, h3⟩ := hl
          have h1 : a' = 0 := h1
          have h2 : b' = 0 := h2
          have h3 : k' = 0 := h3
          subst h1; subst h2; subst h3
          exact hT (Or.inl rfl)
        | 1, hl, hT, hk, n0, n1 => simp [kidM] at hk
        | 2, hl, hT, hk, n0, n1 => simp [kidM] at hk
        | 3, hl, hT, hk, n0, n1 => simp [kidM] at hk
        | 4, hl, hT, hk, n0, n1 => simp [kidM] at hk
        | 5, hl, hT, hk, n0, n1 => simp [kidM] at hk
        | 6, hl, hT, hk, n0, n1 => simp [kidM] at hk
        | 7, hl, hT, hk, n0, n1 => simp [kidM] at hk
        | 8, hl, hT, hk, n0, n1 => simp [kidM] at hk
        | 9, hl, hT, hk, n0, n1 => simp [kidM] at hk
        | 10, hl, hT, hk, n0, n1 => simp [kidM] at hk
        | 11, hl, hT, hk, n0, n1 => simp [kidM] at hk
        | 12, hl, hT, hk, n0, n1 => simp [kidM] at hk
        | 13, hl, hT, hk, n0, n1 => simp [kidM] at hk
        | 14, hl, hT, hk, n0, n1 => simp [kidM] at hk
        | 15, hl, hT, hk, n0, n1 => simp [kidM] at hk
        | 16, hl, hT, hk, n0, n1 => simp [kidM] at hk
        | 17, hl, hT, hk, n0, n1 => simp [kidM] at hk
        | 18, hl, hT, hk, n0, n1 => simp [kidM] at hk
        | 19, hl, hT, hk, n0, n1 => simp [kidM] at hk
        | 20, hl, hT, hk, n0, n1 => simp [kidM] at hk
        | 21, hl, hT, hk, n0, n1 => simp [kidM] at hk
        | 22, hl, hT, hk, n0, n1 => simp [kidM] at hk
        | 23, hl, hT, hk, n0, n1 => simp [kidM] at hk
        | 24, hl, hT, hk, n0, n1 => simp [kidM] at hk
        | 25, hl, hT, hk, n0, n1 => simp [kidM] at hk
        | 26, hl, hT, hk, n0, n1 => simp [kidM] at hk
        | 27, hl, hT, hk, n0, n1 => simp [kidM] at hk
        | n + 28, hl, hT, hk, n0, n1 => exact hl.elim
      · subst z
        obtain ⟨t, a', b', k'⟩ := q
        match t, hl, hT, hk, n0, n1 with
        | 0, hl, hT, hk, n0, n1 => simp [kidM] at hk
        | 1, hl, hT, hk, n0, n1 => simp [kidM] at hk
        | 2, hl, hT, hk, n0, n1 => simp [kidM] at hk
        | 3, hl, hT, hk, n0, n1 => simp [kidM] at hk
        | 4, hl, hT, hk, n0, n1 => simp [kidM] at hk
        | 5, hl, hT, hk, n0, n1 => simp [kidM] at hk
        | 6, hl, hT, hk, n0, n1 => simp [kidM] at hk
        | 7, hl, hT, hk, n0, n1 => simp [kidM] at hk
        | 8, hl, hT, hk, n0, n1 => simp [kidM] at hk
        | 9, hl, hT, hk, n0, n1 => simp [kidM] at hk
        | 10, hl, hT, hk, n0, n1 => simp [kidM] at hk
        | 11, hl, hT, hk, n0, n1 => simp [kidM] at hk
        | 12, hl, hT, hk, n0, n1 => simp [kidM] at hk
        | 13, hl, hT, hk, n0, n1 => simp [kidM] at hk
        | 14, hl, hT, hk, n0, n1 => simp [kidM] at hk
        | 15, hl, hT, hk, n0, n1 => simp [kidM] at hk
        | 16, hl, hT, hk, n0, n1 => simp [kidM] at hk
        | 17, hl, hT, hk, n0, n1 => simp [kidM] at hk
        | 18, hl, hT, hk, n0, n1 => simp [kidM] at hk
        | 19, hl, hT, hk, n0, n1 => simp [kidM] at hk
        | 20, hl, hT, hk, n0, n1 => simp [kidM] at hk
        | 21, hl, hT, hk, n0, n1 => simp [kidM] at hk
        | 22, hl, hT, hk, n0, n1 => simp [kidM] at hk
        | 23, hl, hT, hk, n0, n1 => simp [kidM] at hk
        | 24, hl, hT, hk, n0, n1 => simp [kidM] at hk
        | 25, hl, hT, hk, n0, n1 =>
          obtain ⟨h1, h2, h3⟩ := hl
          have h1 : a' = 0 := h1
          have h2 : b' = 0 := h2
          have h3 : k' = 0 := h3
          subst h1; subst h2; subst h3
          exact n0 rfl
        | 26, hl, hT, hk, n0, n1 => simp [kidM] at hk
        | 27, hl, hT, hk, n0, n1 => simp [kidM] at hk
        | n + 28, hl, hT, hk, n0, n1 => exact hl.elim
    obtain ⟨t, a', b', k'⟩ := q
    match t, hl, hT, hx, n0, n1 with
    | 0, hl, hT, hx, n0, n1 => exact absurd (Or.inl (by obtain ⟨h1, h2, h3⟩ := hl; have h1 : a' = 0 := h1; have h2 : b' = 0 := h2; have h3 : k' = 0 := h3; subst h1; subst h2; subst h3; rfl)) hT
    | 1, hl, hT, hx, n0, n1 => exact hx
    | 2, hl, hT, hx, n0, n1 => exact hx
    | 3, hl, hT, hx, n0, n1 => exact absurd (Or.inr (by obtain ⟨h1, h2, h3⟩ := hl; have h1 : a' = 0 := h1; have h2 : b' = 0 := h2; have h3 : k' = 0 := h3; subst h1; subst h2; subst h3; rfl)) hT
    | 4, hl, hT, hx, n0, n1 => exact hx
    | 5, hl, hT, hx, n0, n1 => exact hx
    | 6, hl, hT, hx, n0, n1 => exact hx
    | 7, hl, hT, hx, n0, n1 => exact hx
    | 8, hl, hT, hx, n0, n1 => exact hx
    | 9, hl, hT, hx, n0, n1 => exact hx
    | 10, hl, hT, hx, n0, n1 => exact hx
    | 11, hl, hT, hx, n0, n1 => exact hx
    | 12, hl, hT, hx, n0, n1 => exact hx
    | 13, hl, hT, hx, n0, n1 => exact hx
    | 14, hl, hT, hx, n0, n1 => exact hx
    | 15, hl, hT, hx, n0, n1 => exact hx
    | 16, hl, hT, hx, n0, n1 => exact hx
    | 17, hl, hT, hx, n0, n1 => exact hx
    | 18, hl, hT, hx, n0, n1 => exact hx
    | 19, hl, hT, hx, n0, n1 => exact hx
    | 20, hl, hT, hx, n0, n1 => exact hx
    | 21, hl, hT, hx, n0, n1 => exact hx
    | 22, hl, hT, hx, n0, n1 => exact hx
    | 23, hl, hT, hx, n0, n1 => exact hx
    | 24, hl, hT, hx, n0, n1 => exact hx
    | 25, hl, hT, hx, n0, n1 => exact absurd (by obtain ⟨h1, h2, h3⟩ := hl; have h1 : a' = 0 := h1; have h2 : b' = 0 := h2; have h3 : k' = 0 := h3; subst h1; subst h2; subst h3; rfl) n0
    | 26, hl, hT, hx, n0, n1 =>
      show okA x 0 5 (fun f => ∀ g9, (s.m.go ++ [G])[a']? = Option.some g9 → _)
      have h5 : a' < (s.m.go ++ [G]).length := hl.1
      simp at h5
      have h4 : a' ≠ s.m.go.length := fun z => n1 (by obtain ⟨_, h2, h3⟩ := hl; have h2 : b' = 0 := h2; have h3 : k' = 0 := h3; subst z; subst h2; subst h3; rfl)
      obtain ⟨f9, h6, h7⟩ := hx
      refine ⟨f9, h6, fun g9 hg9 => h7 g9 ?_⟩
      rw [List.getElem?_append_left (by omega)] at hg9; exact hg9
    | 27, hl, hT, hx, n0, n1 => exact hx
    | n + 28, hl, hT, hx, n0, n1 => exact hl.elim
