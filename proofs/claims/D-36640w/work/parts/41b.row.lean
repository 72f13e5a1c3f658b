/-! THE PLAIN LAW, 11b: one more packet that came out, on the side of the objects (printed by gen/mkspec5.py) -/
set_option maxRecDepth 100000
theorem po_s {s : Sg} {G : Go} : (s.s_go (s.go ++ [G])).po G.e = s.po G.e ++ [G] := by
  show (s.go ++ [G]).filter _ = s.go.filter _ ++ [G]
  rw [List.filter_append]
  simp
theorem po_n {s : Sg} {G : Go} {e : Nat} (h : ¬ e = G.e) : (s.s_go (s.go ++ [G])).po e = s.po e := by
  show (s.go ++ [G]).filter _ = s.go.filter _
  rw [List.filter_append]
  have : ¬ G.e = e := fun z => h z.symm
  simp [this]
theorem R.row_own {A ad : Ro → Nat} {s : Wo} {w w' : Hp} {G : Go} {g cap : Nat} {mc : Int32} {f' : Nat → Option Nat} (h : R A ad s w) (ha : G.e < 3) (ag : ∀ r, Lv s r → ad r ≠ g) (how : s.ow (2 + G.e) = true) (hg : okA (w' g) 0 4 (fun f => f 0 = G.peer ∧ f 1 = G.src ∧ f 2 = G.dst ∧ f 3 = G.ld)) (hc1 : (s.c.po G.e).length + 1 ≤ cap) (hc2 : cap ≤ 128) (hD : w' (ad (c_rwd G.e)) = Option.some (aP 6 cap f')) (hf : ∀ k, k < (s.c.po G.e).length → f' k = Option.some (ad (c_rp G.e k))) (hfn : f' (s.c.po G.e).length = Option.some g) (hP : w' (ad (c_rw G.e)) = Option.some (.inr (7, [.int mc, rf (ad (c_rwd G.e)), .int (nI ((s.c.po G.e).length + 1))])))
    (hw : ∀ q, q ≠ ad (c_rw G.e) → q ≠ ad (c_rwd G.e) → q ≠ g → w' q = w q)
    (hro : ∀ a, w' a = Option.some roE → a = ad c_e) : R A (srC ad (fun q => if q = (24, G.e, (s.c.po G.e).length, 0) then .inr g else .inl q)) ((s.s_c (s.c.s_go (s.c.go ++ [G]))).s_ow s.ow) w' := by
  obtain ⟨src, hsrc⟩ : ∃ z : Rq → Rq ⊕ Nat, z = fun q => if q = (24, G.e, (s.c.po G.e).length, 0) then .inr g else .inl q := ⟨_, rfl⟩
  rw [← hsrc]
  have m0 : src (24, G.e, (s.c.po G.e).length, 0) = .inr g := by
    rw [hsrc]; show (if _ = _ then _ else _) = _
    rw [if_pos rfl]
  have mn : ∀ q, q ≠ (24, G.e, (s.c.po G.e).length, 0) → src q = .inl q := by
    intro q n0
    rw [hsrc]
    show (if _ = _ then _ else _) = _
    rw [if_neg n0]
  have v0 : srC ad src (c_rp G.e (s.c.po G.e).length) = g := srC_n m0
  have vn : ∀ q, q ≠ (24, G.e, (s.c.po G.e).length, 0) → srC ad src (.inl q) = ad (.inl q) := fun q n0 => srC_o (mn q n0)
  refine h.genC2 (s.c.s_go (s.c.go ++ [G])) s.ow src (fun q => q = (22, G.e, 0, 0) ∨ q = (23, G.e, 0, 0)) ?_ ?_ ?_ ?_ ?_ ?_ ?_ hro
  · intro q hq
    exact mn q (fun z => by subst z; exact absurd (show false = true from hq) (by decide))
  · intro q q0 hl e
    by_cases n0 : q = (24, G.e, (s.c.po G.e).length, 0)
    · subst n0; rw [m0] at e
      cases e
    rw [mn q n0] at e
    cases e
    obtain ⟨t, a', b', k'⟩ := q
    match t, hl, n0 with
    | 0, hl, n0 => exact hl
    | 1, hl, n0 => exact hl
    | 2, hl, n0 => exact hl
    | 3, hl, n0 => exact hl
    | 4, hl, n0 => exact hl
    | 5, hl, n0 => exact hl
    | 6, hl, n0 => exact hl
    | 7, hl, n0 => exact hl
    | 8, hl, n0 => exact hl
    | 9, hl, n0 => exact hl
    | 10, hl, n0 => exact hl
    | 11, hl, n0 => exact hl
    | 12, hl, n0 => exact hl
    | 13, hl, n0 => exact hl
    | 14, hl, n0 => exact hl
    | 15, hl, n0 => exact hl
    | 16, hl, n0 => exact hl
    | 17, hl, n0 => exact hl
    | 18, hl, n0 => exact hl
    | 19, hl, n0 => exact hl
    | 20, hl, n0 => exact hl
    | 21, hl, n0 => exact hl
    | 22, hl, n0 => exact hl
    | 23, hl, n0 => exact hl
    | 24, hl, n0 =>
      obtain ⟨h1, h2, h3⟩ := hl
      have h2 : b' < ((s.c.s_go (s.c.go ++ [G])).po a').length := h2
      by_cases hx9 : a' = G.e
      · subst hx9
        rw [po_s] at h2; simp at h2
        have h4 : b' ≠ (s.c.po G.e).length := fun z => n0 (by have h3 : k' = 0 := h3; subst h3; subst z; rfl)
        exact ⟨h1, by show b' < (s.c.po G.e).length; omega, h3⟩
      · rw [po_n hx9] at h2; exact ⟨h1, h2, h3⟩
    | 25, hl, n0 => exact hl
    | 26, hl, n0 => exact hl
    | n + 27, hl, n0 => exact hl.elim
  · intro q g hl e r hr
    by_cases n0 : q = (24, G.e, (s.c.po G.e).length, 0)
    · subst n0; rw [m0] at e; cases e; exact ag r hr
    rw [mn q n0] at e; cases e
  · intro q q' hl hl' e
    by_cases n0 : q = (24, G.e, (s.c.po G.e).length, 0)
    · subst n0; rw [m0] at e
      by_cases p0 : q' = (24, G.e, (s.c.po G.e).length, 0)
      · exact p0.symm
      rw [mn q' p0] at e
      cases e
    rw [mn q n0] at e
    by_cases p0 : q' = (24, G.e, (s.c.po G.e).length, 0)
    · subst p0; rw [m0] at e; cases e
    rw [mn q' p0] at e
    exact Sum.inl.inj e
  · intro r hl hT
    exact hw _ (fun z => hT _ (h.inj _ _ hl (show Lv s (c_rw G.e) from l_c_rw (s := s) ha) z) (Or.inl rfl)) (fun z => hT _ (h.inj _ _ hl (show Lv s (c_rwd G.e) from l_c_rwd (s := s) ha how) z) (Or.inr rfl)) (ag r hl)
  · intro q hl hm
    by_cases n0 : q = (24, G.e, (s.c.po G.e).length, 0)
    · subst n0
      rw [show srC ad src (.inl (24, G.e, (s.c.po G.e).length, 0)) = g from v0]
      show okA (w' g) 0 4 (fun f => ∀ g9, ((s.c.s_go (s.c.go ++ [G])).po G.e)[(s.c.po G.e).length]? = Option.some g9 → f 0 = g9.peer ∧ f 1 = g9.src ∧ f 2 = g9.dst ∧ f 3 = g9.ld)
      rw [po_s]
      obtain ⟨f9, h1, h2⟩ := hg
      refine ⟨f9, h1, fun g9 hg9 => ?_⟩
      simp at hg9
      subst hg9; exact h2
    rcases hm with hm | hm
    · exact absurd (mn q n0) hm
    rcases hm with rfl | rfl
    · have e9 : srC ad src c_e = ad c_e := vn _ (fun z => by simp at z)
      have e8 : srC ad src (c_rw G.e) = ad (c_rw G.e) := vn (22, G.e, 0, 0) (fun z => by simp at z)
      have e7 : srC ad src (c_rwd G.e) = ad (c_rwd G.e) := vn (23, G.e, 0, 0) (fun z => by simp at z)
      show okL (w' (srC ad src (c_rw G.e))) (s.ow (2 + G.e)) (srC ad src (c_rwd G.e)) (srC ad src c_e) ((s.c.s_go (s.c.go ++ [G])).po G.e).length
      rw [how, e7, e8, po_s, List.length_append]
      exact ⟨mc, hP, fun z => by cases z⟩
    · have e7 : srC ad src (c_rwd G.e) = ad (c_rwd G.e) := vn (23, G.e, 0, 0) (fun z => by simp at z)
      show okD (w' (srC ad src (c_rwd G.e))) ((s.c.s_go (s.c.go ++ [G])).po G.e).length (fun k => srC ad src (c_rp G.e k))
      rw [e7]
      rw [po_s, List.length_append]
      refine ⟨cap, f', hD, hc1, by omega, hc2, fun k hk => ?_⟩
      have hk : k < (s.c.po G.e).length + 1 := hk
      by_cases hx9 : k = (s.c.po G.e).length
      · subst hx9; exact hfn.trans (congrArg Option.some v0.symm)
      · exact (hf k (by omega)).trans (congrArg Option.some (vn (24, G.e, k, 0) (fun z => hx9 (by simpa using z)) ).symm)
  · intro q x hl hm hT hx
    have n0 : q ≠ (24, G.e, (s.c.po G.e).length, 0) := fun z => by subst z; rw [m0] at hm; cases hm
    have hx : OkC s.c s.ow (srC ad src) x q := by
      refine OkC.congr2 (fun q9 hk => vn q9 (fun z => ?_)) hx
      · subst z
        obtain ⟨t, a', b', k'⟩ := q
        match t, hl, hT, hk, n0 with
        | 0, hl, hT, hk, n0 => simp [kidC] at hk
        | 1, hl, hT, hk, n0 => simp [kidC] at hk
        | 2, hl, hT, hk, n0 => simp [kidC] at hk
        | 3, hl, hT, hk, n0 => simp [kidC] at hk
        | 4, hl, hT, hk, n0 => simp [kidC] at hk
        | 5, hl, hT, hk, n0 => simp [kidC] at hk
        | 6, hl, hT, hk, n0 => simp [kidC] at hk
        | 7, hl, hT, hk, n0 => simp [kidC] at hk
        | 8, hl, hT, hk, n0 => simp [kidC] at hk
        | 9, hl, hT, hk, n0 => simp [kidC] at hk
        | 10, hl, hT, hk, n0 => simp [kidC] at hk
        | 11, hl, hT, hk, n0 => simp [kidC] at hk
        | 12, hl, hT, hk, n0 => simp [kidC] at hk
        | 13, hl, hT, hk, n0 => simp [kidC] at hk
        | 14, hl, hT, hk, n0 => simp [kidC] at hk
        | 15, hl, hT, hk, n0 => simp [kidC] at hk
        | 16, hl, hT, hk, n0 => simp [kidC] at hk
        | 17, hl, hT, hk, n0 => simp [kidC] at hk
        | 18, hl, hT, hk, n0 => simp [kidC] at hk
        | 19, hl, hT, hk, n0 => simp [kidC] at hk
        | 20, hl, hT, hk, n0 => simp [kidC] at hk
        | 21, hl, hT, hk, n0 => simp [kidC] at hk
        | 22, hl, hT, hk, n0 => simp [kidC] at hk
        | 23, hl, hT, hk, n0 =>
          obtain ⟨x9, hk⟩ := hk
          have h9 : a' = G.e := by
            simp at hk
            first | exact hk.1.symm | exact hk.1 | exact hk.symm | exact hk
          obtain ⟨h2, h3⟩ := hl.2.2
          have h2 : b' = 0 := h2
          have h3 : k' = 0 := h3
          subst h2; subst h3; subst h9
          exact hT (Or.inr rfl)
        | 24, hl, hT, hk, n0 => simp [kidC] at hk
        | 25, hl, hT, hk, n0 => simp [kidC] at hk
        | 26, hl, hT, hk, n0 => simp [kidC] at hk
        | n + 27, hl, hT, hk, n0 => exact hl.elim
    obtain ⟨t, a', b', k'⟩ := q
    match t, hl, hT, hx, n0 with
    | 0, hl, hT, hx, n0 => exact hx
    | 1, hl, hT, hx, n0 => exact hx
    | 2, hl, hT, hx, n0 => exact hx
    | 3, hl, hT, hx, n0 => exact hx
    | 4, hl, hT, hx, n0 => exact hx
    | 5, hl, hT, hx, n0 => exact hx
    | 6, hl, hT, hx, n0 => exact hx
    | 7, hl, hT, hx, n0 => exact hx
    | 8, hl, hT, hx, n0 => exact hx
    | 9, hl, hT, hx, n0 => exact hx
    | 10, hl, hT, hx, n0 => exact hx
    | 11, hl, hT, hx, n0 => exact hx
    | 12, hl, hT, hx, n0 => exact hx
    | 13, hl, hT, hx, n0 => exact hx
    | 14, hl, hT, hx, n0 => exact hx
    | 15, hl, hT, hx, n0 => exact hx
    | 16, hl, hT, hx, n0 => exact hx
    | 17, hl, hT, hx, n0 => exact hx
    | 18, hl, hT, hx, n0 => exact hx
    | 19, hl, hT, hx, n0 => exact hx
    | 20, hl, hT, hx, n0 => exact hx
    | 21, hl, hT, hx, n0 => exact hx
    | 22, hl, hT, hx, n0 =>
      have hx9 : ¬ a' = G.e := fun z => hT (Or.inl (by obtain ⟨_, h2, h3⟩ := hl; subst z; subst h2; subst h3; rfl))
      show okL x (s.ow (2 + a')) _ _ ((s.c.s_go (s.c.go ++ [G])).po a').length
      rw [po_n hx9]; exact hx
    | 23, hl, hT, hx, n0 =>
      have hx9 : ¬ a' = G.e := fun z => hT (Or.inr (by obtain ⟨_, _, h2, h3⟩ := hl; subst z; subst h2; subst h3; rfl))
      show okD x ((s.c.s_go (s.c.go ++ [G])).po a').length _
      rw [po_n hx9]; exact hx
    | 24, hl, hT, hx, n0 =>
      show okA x 0 4 (fun f => ∀ g9, ((s.c.s_go (s.c.go ++ [G])).po a')[b']? = Option.some g9 → _)
      by_cases hx9 : a' = G.e
      · subst hx9
        rw [po_s]
        have h2 : b' < ((s.c.s_go (s.c.go ++ [G])).po G.e).length := hl.2.1
        rw [po_s] at h2; simp at h2
        have h4 : b' ≠ (s.c.po G.e).length := fun z => n0 (by have h3 : k' = 0 := hl.2.2; subst h3; subst z; rfl)
        obtain ⟨f9, h5, h6⟩ := hx
        refine ⟨f9, h5, fun g9 hg9 => h6 g9 ?_⟩
        rw [List.getElem?_append_left (by omega)] at hg9; exact hg9
      · rw [po_n hx9]; exact hx
    | 25, hl, hT, hx, n0 => exact hx
    | 26, hl, hT, hx, n0 => exact hx
    | n + 27, hl, hT, hx, n0 => exact hl.elim
theorem R.row_new {A ad : Ro → Nat} {s : Wo} {w w' : Hp} {G : Go} {g d' cap : Nat} {mc : Int32} {f' : Nat → Option Nat} (h : R A ad s w) (ha : G.e < 3) (ag : ∀ r, Lv s r → ad r ≠ g) (aD : ∀ r, Lv s r → ad r ≠ d') (hne : g ≠ d') (hg : okA (w' g) 0 4 (fun f => f 0 = G.peer ∧ f 1 = G.src ∧ f 2 = G.dst ∧ f 3 = G.ld)) (hc1 : (s.c.po G.e).length + 1 ≤ cap) (hc2 : cap ≤ 128) (hD : w' d' = Option.some (aP 6 cap f')) (hf : ∀ k, k < (s.c.po G.e).length → f' k = Option.some (ad (c_rp G.e k))) (hfn : f' (s.c.po G.e).length = Option.some g) (hP : w' (ad (c_rw G.e)) = Option.some (.inr (7, [.int mc, rf d', .int (nI ((s.c.po G.e).length + 1))])))
    (hw : ∀ q, q ≠ ad (c_rw G.e) → q ≠ g → q ≠ d' → w' q = w q)
    (hro : ∀ a, w' a = Option.some roE → a = ad c_e) : R A (srC ad (fun q => if q = (24, G.e, (s.c.po G.e).length, 0) then .inr g else if q = (23, G.e, 0, 0) then .inr d' else .inl q)) ((s.s_c (s.c.s_go (s.c.go ++ [G]))).s_ow (upd1 s.ow (2 + G.e) true)) w' := by
  obtain ⟨src, hsrc⟩ : ∃ z : Rq → Rq ⊕ Nat, z = fun q => if q = (24, G.e, (s.c.po G.e).length, 0) then .inr g else if q = (23, G.e, 0, 0) then .inr d' else .inl q := ⟨_, rfl⟩
  rw [← hsrc]
  have m0 : src (24, G.e, (s.c.po G.e).length, 0) = .inr g := by
    rw [hsrc]; show (if _ = _ then _ else _) = _
    rw [if_pos rfl]
  have m1 : src (23, G.e, 0, 0) = .inr d' := by
    rw [hsrc]; show (if _ = _ then _ else _) = _
    rw [if_neg (fun z => by simp at z)]
    rw [if_pos rfl]
  have mn : ∀ q, q ≠ (24, G.e, (s.c.po G.e).length, 0) → q ≠ (23, G.e, 0, 0) → src q = .inl q := by
    intro q n0 n1
    rw [hsrc]
    show (if _ = _ then _ else _) = _
    rw [if_neg n0, if_neg n1]
  have v0 : srC ad src (c_rp G.e (s.c.po G.e).length) = g := srC_n m0
  have v1 : srC ad src (c_rwd G.e) = d' := srC_n m1
  have vn : ∀ q, q ≠ (24, G.e, (s.c.po G.e).length, 0) → q ≠ (23, G.e, 0, 0) → srC ad src (.inl q) = ad (.inl q) := fun q n0 n1 => srC_o (mn q n0 n1)
  refine h.genC2 (s.c.s_go (s.c.go ++ [G])) (upd1 s.ow (2 + G.e) true) src (fun q => q = (22, G.e, 0, 0)) ?_ ?_ ?_ ?_ ?_ ?_ ?_ hro
  · intro q hq
    exact mn q (fun z => by subst z; exact absurd (show false = true from hq) (by decide)) (fun z => by subst z; exact absurd (show false = true from hq) (by decide))
  · intro q q0 hl e
    by_cases n0 : q = (24, G.e, (s.c.po G.e).length, 0)
    · subst n0; rw [m0] at e
      cases e
    by_cases n1 : q = (23, G.e, 0, 0)
    · subst n1; rw [m1] at e
      cases e
    rw [mn q n0 n1] at e
    cases e
    obtain ⟨t, a', b', k'⟩ := q
    match t, hl, n0, n1 with
    | 0, hl, n0, n1 => exact hl
    | 1, hl, n0, n1 => exact hl
    | 2, hl, n0, n1 => exact hl
    | 3, hl, n0, n1 => exact hl
    | 4, hl, n0, n1 => exact hl
    | 5, hl, n0, n1 => exact hl
    | 6, hl, n0, n1 => exact hl
    | 7, hl, n0, n1 => exact hl
    | 8, hl, n0, n1 => exact hl
    | 9, hl, n0, n1 => exact hl
    | 10, hl, n0, n1 => exact hl
    | 11, hl, n0, n1 => exact hl
    | 12, hl, n0, n1 => exact hl
    | 13, hl, n0, n1 => exact hl
    | 14, hl, n0, n1 => exact hl
    | 15, hl, n0, n1 => exact hl
    | 16, hl, n0, n1 => exact hl
    | 17, hl, n0, n1 =>
      obtain ⟨h1, h2⟩ := hl
      have h1 : upd1 s.ow (2 + G.e) true 0 = true := h1
      rw [upd1_n (by omega)] at h1; exact ⟨h1, h2⟩
    | 18, hl, n0, n1 => exact hl
    | 19, hl, n0, n1 => exact hl
    | 20, hl, n0, n1 => exact hl
    | 21, hl, n0, n1 =>
      obtain ⟨h1, h2⟩ := hl
      have h1 : upd1 s.ow (2 + G.e) true 1 = true := h1
      rw [upd1_n (by omega)] at h1; exact ⟨h1, h2⟩
    | 22, hl, n0, n1 => exact hl
    | 23, hl, n0, n1 =>
      obtain ⟨h1, h2, h3, h4⟩ := hl
      have h2 : upd1 s.ow (2 + G.e) true (2 + a') = true := h2
      have h3 : b' = 0 := h3
      have h4 : k' = 0 := h4
      have hx9 : ¬ a' = G.e := fun z => n1 (by subst z; subst h3; subst h4; rfl)
      rw [upd1_n (by omega)] at h2; exact ⟨h1, h2, h3, h4⟩
    | 24, hl, n0, n1 =>
      obtain ⟨h1, h2, h3⟩ := hl
      have h2 : b' < ((s.c.s_go (s.c.go ++ [G])).po a').length := h2
      by_cases hx9 : a' = G.e
      · subst hx9
        rw [po_s] at h2; simp at h2
        have h4 : b' ≠ (s.c.po G.e).length := fun z => n0 (by have h3 : k' = 0 := h3; subst h3; subst z; rfl)
        exact ⟨h1, by show b' < (s.c.po G.e).length; omega, h3⟩
      · rw [po_n hx9] at h2; exact ⟨h1, h2, h3⟩
    | 25, hl, n0, n1 => exact hl
    | 26, hl, n0, n1 => exact hl
    | n + 27, hl, n0, n1 => exact hl.elim
  · intro q g hl e r hr
    by_cases n0 : q = (24, G.e, (s.c.po G.e).length, 0)
    · subst n0; rw [m0] at e; cases e; exact ag r hr
    by_cases n1 : q = (23, G.e, 0, 0)
    · subst n1; rw [m1] at e; cases e; exact aD r hr
    rw [mn q n0 n1] at e; cases e
  · intro q q' hl hl' e
    by_cases n0 : q = (24, G.e, (s.c.po G.e).length, 0)
    · subst n0; rw [m0] at e
      by_cases p0 : q' = (24, G.e, (s.c.po G.e).length, 0)
      · exact p0.symm
      by_cases p1 : q' = (23, G.e, 0, 0)
      · subst p1; rw [m1] at e; first | exact absurd (Sum.inr.inj e) hne | exact absurd (Sum.inr.inj e).symm hne
      rw [mn q' p0 p1] at e
      cases e
    by_cases n1 : q = (23, G.e, 0, 0)
    · subst n1; rw [m1] at e
      by_cases p0 : q' = (24, G.e, (s.c.po G.e).length, 0)
      · subst p0; rw [m0] at e; first | exact absurd (Sum.inr.inj e) hne | exact absurd (Sum.inr.inj e).symm hne
      by_cases p1 : q' = (23, G.e, 0, 0)
      · exact p1.symm
      rw [mn q' p0 p1] at e
      cases e
    rw [mn q n0 n1] at e
    by_cases p0 : q' = (24, G.e, (s.c.po G.e).length, 0)
    · subst p0; rw [m0] at e; cases e
    by_cases p1 : q' = (23, G.e, 0, 0)
    · subst p1; rw [m1] at e; cases e
    rw [mn q' p0 p1] at e
    exact Sum.inl.inj e
  · intro r hl hT
    exact hw _ (fun z => hT _ (h.inj _ _ hl (show Lv s (c_rw G.e) from l_c_rw (s := s) ha) z) rfl) (ag r hl) (aD r hl)
  · intro q hl hm
    by_cases n0 : q = (24, G.e, (s.c.po G.e).length, 0)
    · subst n0
      rw [show srC ad src (.inl (24, G.e, (s.c.po G.e).length, 0)) = g from v0]
      show okA (w' g) 0 4 (fun f => ∀ g9, ((s.c.s_go (s.c.go ++ [G])).po G.e)[(s.c.po G.e).length]? = Option.some g9 → f 0 = g9.peer ∧ f 1 = g9.src ∧ f 2 = g9.dst ∧ f 3 = g9.ld)
      rw [po_s]
      obtain ⟨f9, h1, h2⟩ := hg
      refine ⟨f9, h1, fun g9 hg9 => ?_⟩
      simp at hg9
      subst hg9; exact h2
    by_cases n1 : q = (23, G.e, 0, 0)
    · subst n1
      rw [show srC ad src (.inl (23, G.e, 0, 0)) = d' from v1]
      show okD (w' d') ((s.c.s_go (s.c.go ++ [G])).po G.e).length (fun k => srC ad src (c_rp G.e k))
      rw [po_s, List.length_append]
      refine ⟨cap, f', hD, hc1, by omega, hc2, fun k hk => ?_⟩
      have hk : k < (s.c.po G.e).length + 1 := hk
      by_cases hx9 : k = (s.c.po G.e).length
      · subst hx9; exact hfn.trans (congrArg Option.some v0.symm)
      · exact (hf k (by omega)).trans (congrArg Option.some (vn (24, G.e, k, 0) (fun z => hx9 (by simpa using z)) (fun z => by simp at z)).symm)
    rcases hm with hm | hm
    · exact absurd (mn q n0 n1) hm
    subst hm
    have e9 : srC ad src c_e = ad c_e := vn _ (fun z => by simp at z) (fun z => by simp at z)
    have e8 : srC ad src (c_rw G.e) = ad (c_rw G.e) := vn (22, G.e, 0, 0) (fun z => by simp at z) (fun z => by simp at z)
    show okL (w' (srC ad src (c_rw G.e))) (upd1 s.ow (2 + G.e) true (2 + G.e)) (srC ad src (c_rwd G.e)) (srC ad src c_e) ((s.c.s_go (s.c.go ++ [G])).po G.e).length
    rw [upd1_s, v1, e8, po_s, List.length_append]
    exact ⟨mc, hP, fun z => by cases z⟩
  · intro q x hl hm hT hx
    have n0 : q ≠ (24, G.e, (s.c.po G.e).length, 0) := fun z => by subst z; rw [m0] at hm; cases hm
    have n1 : q ≠ (23, G.e, 0, 0) := fun z => by subst z; rw [m1] at hm; cases hm
    have hx : OkC s.c s.ow (srC ad src) x q := by
      refine OkC.congr2 (fun q9 hk => vn q9 (fun z => ?_) (fun z => ?_)) hx
      · subst z
        obtain ⟨t, a', b', k'⟩ := q
        match t, hl, hT, hk, n0, n1 with
        | 0, hl, hT, hk, n0, n1 => simp [kidC] at hk
        | 1, hl, hT, hk, n0, n1 => simp [kidC] at hk
        | 2, hl, hT, hk, n0, n1 => simp [kidC] at hk
        | 3, hl, hT, hk, n0, n1 => simp [kidC] at hk
        | 4, hl, hT, hk, n0, n1 => simp [kidC] at hk
        | 5, hl, hT, hk, n0, n1 => simp [kidC] at hk
        | 6, hl, hT, hk, n0, n1 => simp [kidC] at hk
        | 7, hl, hT, hk, n0, n1 => simp [kidC] at hk
        | 8, hl, hT, hk, n0, n1 => simp [kidC] at hk
        | 9, hl, hT, hk, n0, n1 => simp [kidC] at hk
        | 10, hl, hT, hk, n0, n1 => simp [kidC] at hk
        | 11, hl, hT, hk, n0, n1 => simp [kidC] at hk
        | 12, hl, hT, hk, n0, n1 => simp [kidC] at hk
        | 13, hl, hT, hk, n0, n1 => simp [kidC] at hk
        | 14, hl, hT, hk, n0, n1 => simp [kidC] at hk
        | 15, hl, hT, hk, n0, n1 => simp [kidC] at hk
        | 16, hl, hT, hk, n0, n1 => simp [kidC] at hk
        | 17, hl, hT, hk, n0, n1 => simp [kidC] at hk
        | 18, hl, hT, hk, n0, n1 => simp [kidC] at hk
        | 19, hl, hT, hk, n0, n1 => simp [kidC] at hk
        | 20, hl, hT, hk, n0, n1 => simp [kidC] at hk
        | 21, hl, hT, hk, n0, n1 => simp [kidC] at hk
        | 22, hl, hT, hk, n0, n1 => simp [kidC] at hk
        | 23, hl, hT, hk, n0, n1 =>
          obtain ⟨x9, hk⟩ := hk
          have h9 : a' = G.e := by
            simp at hk
            first | exact hk.1.symm | exact hk.1 | exact hk.symm | exact hk
          obtain ⟨h2, h3⟩ := hl.2.2
          have h2 : b' = 0 := h2
          have h3 : k' = 0 := h3
          subst h2; subst h3; subst h9
          exact n1 rfl
        | 24, hl, hT, hk, n0, n1 => simp [kidC] at hk
        | 25, hl, hT, hk, n0, n1 => simp [kidC] at hk
        | 26, hl, hT, hk, n0, n1 => simp [kidC] at hk
        | n + 27, hl, hT, hk, n0, n1 => exact hl.elim
      · subst z
        obtain ⟨t, a', b', k'⟩ := q
        match t, hl, hT, hk, n0, n1 with
        | 0, hl, hT, hk, n0, n1 => simp [kidC] at hk
        | 1, hl, hT, hk, n0, n1 => simp [kidC] at hk
        | 2, hl, hT, hk, n0, n1 => simp [kidC] at hk
        | 3, hl, hT, hk, n0, n1 => simp [kidC] at hk
        | 4, hl, hT, hk, n0, n1 => simp [kidC] at hk
        | 5, hl, hT, hk, n0, n1 => simp [kidC] at hk
        | 6, hl, hT, hk, n0, n1 => simp [kidC] at hk
        | 7, hl, hT, hk, n0, n1 => simp [kidC] at hk
        | 8, hl, hT, hk, n0, n1 => simp [kidC] at hk
        | 9, hl, hT, hk, n0, n1 => simp [kidC] at hk
        | 10, hl, hT, hk, n0, n1 => simp [kidC] at hk
        | 11, hl, hT, hk, n0, n1 => simp [kidC] at hk
        | 12, hl, hT, hk, n0, n1 => simp [kidC] at hk
        | 13, hl, hT, hk, n0, n1 => simp [kidC] at hk
        | 14, hl, hT, hk, n0, n1 => simp [kidC] at hk
        | 15, hl, hT, hk, n0, n1 => simp [kidC] at hk
        | 16, hl, hT, hk, n0, n1 => simp [kidC] at hk
        | 17, hl, hT, hk, n0, n1 => simp [kidC] at hk
        | 18, hl, hT, hk, n0, n1 => simp [kidC] at hk
        | 19, hl, hT, hk, n0, n1 => simp [kidC] at hk
        | 20, hl, hT, hk, n0, n1 => simp [kidC] at hk
        | 21, hl, hT, hk, n0, n1 => simp [kidC] at hk
        | 22, hl, hT, hk, n0, n1 =>
          have h9 : a' = G.e := by
            simp [kidC] at hk
            first | exact hk.1.symm | exact hk.1 | exact hk.symm | exact hk
          obtain ⟨h2, h3⟩ := hl.2
          have h2 : b' = 0 := h2
          have h3 : k' = 0 := h3
          subst h2; subst h3; subst h9
          exact hT rfl
        | 23, hl, hT, hk, n0, n1 => simp [kidC] at hk
        | 24, hl, hT, hk, n0, n1 => simp [kidC] at hk
        | 25, hl, hT, hk, n0, n1 => simp [kidC] at hk
        | 26, hl, hT, hk, n0, n1 => simp [kidC] at hk
        | n + 27, hl, hT, hk, n0, n1 => exact hl.elim
    obtain ⟨t, a', b', k'⟩ := q
    match t, hl, hT, hx, n0, n1 with
    | 0, hl, hT, hx, n0, n1 => exact hx
    | 1, hl, hT, hx, n0, n1 => exact hx
    | 2, hl, hT, hx, n0, n1 => exact hx
    | 3, hl, hT, hx, n0, n1 => exact hx
    | 4, hl, hT, hx, n0, n1 => exact hx
    | 5, hl, hT, hx, n0, n1 => exact hx
    | 6, hl, hT, hx, n0, n1 => exact hx
    | 7, hl, hT, hx, n0, n1 => exact hx
    | 8, hl, hT, hx, n0, n1 => exact hx
    | 9, hl, hT, hx, n0, n1 => exact hx
    | 10, hl, hT, hx, n0, n1 => exact hx
    | 11, hl, hT, hx, n0, n1 => exact hx
    | 12, hl, hT, hx, n0, n1 => exact hx
    | 13, hl, hT, hx, n0, n1 => exact hx
    | 14, hl, hT, hx, n0, n1 => exact hx
    | 15, hl, hT, hx, n0, n1 => exact hx
    | 16, hl, hT, hx, n0, n1 =>
      show okL x (upd1 s.ow (2 + G.e) true 0) _ _ _
      rw [upd1_n (show ¬ 0 = 2 + G.e by omega)]; exact hx
    | 17, hl, hT, hx, n0, n1 => exact hx
    | 18, hl, hT, hx, n0, n1 => exact hx
    | 19, hl, hT, hx, n0, n1 => exact hx
    | 20, hl, hT, hx, n0, n1 =>
      show okL x (upd1 s.ow (2 + G.e) true 1) _ _ _
      rw [upd1_n (show ¬ 1 = 2 + G.e by omega)]; exact hx
    | 21, hl, hT, hx, n0, n1 => exact hx
    | 22, hl, hT, hx, n0, n1 =>
      have hx9 : ¬ a' = G.e := fun z => hT (by obtain ⟨_, h2, h3⟩ := hl; subst z; subst h2; subst h3; rfl)
      show okL x ((upd1 s.ow (2 + G.e) true) (2 + a')) _ _ ((s.c.s_go (s.c.go ++ [G])).po a').length
      rw [po_n hx9, upd1_n (show ¬ 2 + a' = 2 + G.e by omega)]; exact hx
    | 23, hl, hT, hx, n0, n1 =>
      have hx9 : ¬ a' = G.e := fun z => n1 (by obtain ⟨_, _, h2, h3⟩ := hl; subst z; subst h2; subst h3; rfl)
      show okD x ((s.c.s_go (s.c.go ++ [G])).po a').length _
      rw [po_n hx9]; exact hx
    | 24, hl, hT, hx, n0, n1 =>
      show okA x 0 4 (fun f => ∀ g9, ((s.c.s_go (s.c.go ++ [G])).po a')[b']? = Option.some g9 → _)
      by_cases hx9 : a' = G.e
      · subst hx9
        rw [po_s]
        have h2 : b' < ((s.c.s_go (s.c.go ++ [G])).po G.e).length := hl.2.1
        rw [po_s] at h2; simp at h2
        have h4 : b' ≠ (s.c.po G.e).length := fun z => n0 (by have h3 : k' = 0 := hl.2.2; subst h3; subst z; rfl)
        obtain ⟨f9, h5, h6⟩ := hx
        refine ⟨f9, h5, fun g9 hg9 => h6 g9 ?_⟩
        rw [List.getElem?_append_left (by omega)] at hg9; exact hg9
      · rw [po_n hx9]; exact hx
    | 25, hl, hT, hx, n0, n1 => exact hx
    | 26, hl, hT, hx, n0, n1 => exact hx
    | n + 27, hl, hT, hx, n0, n1 => exact hl.elim
