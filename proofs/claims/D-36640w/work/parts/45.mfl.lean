/-! THE PLAIN LAW, 15: hellos in flight on the side of the plain tables (printed by gen/mkspec9.py) -/
set_option maxRecDepth 100000
theorem mxok_fl {c : Sg} {a b : Nat} {z' : Option Fl} {j a' i : Nat} {x : Int32} (hj : j < 10) (hx : (3 ≤ j ∧ j ≤ 6) → ¬ (a' = a ∧ i = b)) (h : mxok c j a' i x) : mxok (c.s_fl (upd2 c.fl a b z')) j a' i x := by
  match j, hj, hx, h with
  | 0, _, _, h => exact h
  | 1, _, _, h => exact h
  | 2, _, _, h => exact h
  | 3, _, hx, h =>
    have e9 : upd2 c.fl a b z' a' i = c.fl a' i := upd2_n (fun z => hx ⟨by decide, by decide⟩ z)
    show x = (match upd2 c.fl a b z' a' i with | none => -1 | some f => f.idx)
    rw [e9]; exact h
  | 4, _, hx, h =>
    have e9 : upd2 c.fl a b z' a' i = c.fl a' i := upd2_n (fun z => hx ⟨by decide, by decide⟩ z)
    intro f hf
    exact h f (e9.symm.trans hf)
  | 5, _, hx, h =>
    have e9 : upd2 c.fl a b z' a' i = c.fl a' i := upd2_n (fun z => hx ⟨by decide, by decide⟩ z)
    intro f hf
    exact h f (e9.symm.trans hf)
  | 6, _, hx, h =>
    have e9 : upd2 c.fl a b z' a' i = c.fl a' i := upd2_n (fun z => hx ⟨by decide, by decide⟩ z)
    intro f hf
    exact h f (e9.symm.trans hf)
  | 7, _, _, h => exact h
  | 8, _, _, h => exact h
  | 9, _, _, h => exact h
  | n + 10, hj, _, _ => omega
theorem R.mf_set {A ad : Ro → Nat} {s : Wo} {w w' : Hp} {a b : Nat} {z' : Option Fl} (h : R A ad s w) (ha : a < 3) (hb : b < 3) (h3 : okA (w' (ad (m_mxr 3 a))) 0 3 (fun f => ∀ i, i < 3 → mxok (s.m.s_fl (upd2 s.m.fl a b z')) 3 a i (f i))) (h4 : okA (w' (ad (m_mxr 4 a))) 0 3 (fun f => ∀ i, i < 3 → mxok (s.m.s_fl (upd2 s.m.fl a b z')) 4 a i (f i))) (h5 : okA (w' (ad (m_mxr 5 a))) 0 3 (fun f => ∀ i, i < 3 → mxok (s.m.s_fl (upd2 s.m.fl a b z')) 5 a i (f i))) (h6 : okA (w' (ad (m_mxr 6 a))) 0 3 (fun f => ∀ i, i < 3 → mxok (s.m.s_fl (upd2 s.m.fl a b z')) 6 a i (f i)))
    (hw : ∀ q, q ≠ ad (m_mxr 3 a) → q ≠ ad (m_mxr 4 a) → q ≠ ad (m_mxr 5 a) → q ≠ ad (m_mxr 6 a) → w' q = w q)
    (hro : ∀ a, w' a = Option.some roE → a = ad c_e) : R A (srM ad (fun q => .inl q)) ((((s.s_m (s.m.s_fl (upd2 s.m.fl a b z'))).s_th s.th).s_sm s.sm).s_o s.o) w' := by
  obtain ⟨src, hsrc⟩ : ∃ z : Rq → Rq ⊕ Nat, z = fun q => .inl q := ⟨_, rfl⟩
  rw [← hsrc]
  have mn : ∀ q, src q = .inl q := by
    intro q 
    rw [hsrc]
  have vn : ∀ q, srM ad src (.inr q) = ad (.inr q) := fun q  => srM_o (mn q )
  refine h.genM2 (s.m.s_fl (upd2 s.m.fl a b z')) s.th s.sm s.o src (fun q => q = (10, 3, a, 0) ∨ q = (10, 4, a, 0) ∨ q = (10, 5, a, 0) ∨ q = (10, 6, a, 0)) ?_ ?_ ?_ ?_ ?_ ?_ ?_ hro
  · intro q hq
    exact mn q 
  · intro q q0 hl e
    rw [mn q ] at e
    cases e
    obtain ⟨t, a', b', k'⟩ := q
    match t, hl with
    | 0, hl => exact hl
    | 1, hl => exact hl
    | 2, hl => exact hl
    | 3, hl => exact hl
    | 4, hl => exact hl
    | 5, hl => exact hl
    | 6, hl => exact hl
    | 7, hl => exact hl
    | 8, hl => exact hl
    | 9, hl => exact hl
    | 10, hl => exact hl
    | 11, hl => exact hl
    | 12, hl => exact hl
    | 13, hl => exact hl
    | 14, hl => exact hl
    | 15, hl => exact hl
    | 16, hl => exact hl
    | 17, hl => exact hl
    | 18, hl => exact hl
    | 19, hl => exact hl
    | 20, hl => exact hl
    | 21, hl => exact hl
    | 22, hl => exact hl
    | 23, hl => exact hl
    | 24, hl => exact hl
    | 25, hl => exact hl
    | 26, hl => exact hl
    | 27, hl => exact hl
    | n + 28, hl => exact hl.elim
  · intro q g hl e r hr
    rw [mn q ] at e; cases e
  · intro q q' hl hl' e
    rw [mn q ] at e
    rw [mn q' ] at e
    exact Sum.inl.inj e
  · intro r hl hT
    exact hw _ (fun z => hT _ (h.inj _ _ hl (show Lv s (m_mxr 3 a) from l_m_mxr (s := s) (a := 3) (by decide) ha) z) (Or.inl rfl)) (fun z => hT _ (h.inj _ _ hl (show Lv s (m_mxr 4 a) from l_m_mxr (s := s) (a := 4) (by decide) ha) z) (Or.inr (Or.inl rfl))) (fun z => hT _ (h.inj _ _ hl (show Lv s (m_mxr 5 a) from l_m_mxr (s := s) (a := 5) (by decide) ha) z) (Or.inr (Or.inr (Or.inl rfl)))) (fun z => hT _ (h.inj _ _ hl (show Lv s (m_mxr 6 a) from l_m_mxr (s := s) (a := 6) (by decide) ha) z) (Or.inr (Or.inr (Or.inr rfl)))) 
  · intro q hl hm
    rcases hm with hm | hm
    · exact absurd (mn q ) hm
    rcases hm with rfl | rfl | rfl | rfl
    · rw [show srM ad src (.inr (10, 3, a, 0)) = ad (m_mxr 3 a) from vn _]
      exact h3
    · rw [show srM ad src (.inr (10, 4, a, 0)) = ad (m_mxr 4 a) from vn _]
      exact h4
    · rw [show srM ad src (.inr (10, 5, a, 0)) = ad (m_mxr 5 a) from vn _]
      exact h5
    · rw [show srM ad src (.inr (10, 6, a, 0)) = ad (m_mxr 6 a) from vn _]
      exact h6
  · intro q x hl hm hT hx
    have hx : OkM s.m s.th s.sm s.o (srM ad src) x q := by
      refine OkM.congr2 (fun q9 hk => vn q9 ) hx
    obtain ⟨t, a', b', k'⟩ := q
    match t, hl, hT, hx with
    | 0, hl, hT, hx => exact hx
    | 1, hl, hT, hx => exact hx
    | 2, hl, hT, hx => exact hx
    | 3, hl, hT, hx => exact hx
    | 4, hl, hT, hx => exact hx
    | 5, hl, hT, hx => exact hx
    | 6, hl, hT, hx => exact hx
    | 7, hl, hT, hx => exact hx
    | 8, hl, hT, hx => exact hx
    | 9, hl, hT, hx => exact hx
    | 10, hl, hT, hx =>
      obtain ⟨h1, _, h3⟩ := hl
      have h1 : a' < 10 := h1
      have h6 : k' = 0 := h3
      subst h6
      obtain ⟨f9, h5, h7⟩ := hx
      refine ⟨f9, h5, fun i hi => mxok_fl h1 (fun z1 z2 => ?_) (h7 i hi)⟩
      have z4 : b' = a := z2.1
      have z1 : 3 ≤ a' ∧ a' ≤ 6 := z1
      have z5 : a' = 3 ∨ a' = 4 ∨ a' = 5 ∨ a' = 6 := by omega
      rcases z5 with z3 | z3 | z3 | z3
      · exact hT (Or.inl (by rw [z3, z4]))
      · exact hT (Or.inr (Or.inl (by rw [z3, z4])))
      · exact hT (Or.inr (Or.inr (Or.inl (by rw [z3, z4]))))
      · exact hT (Or.inr (Or.inr (Or.inr (by rw [z3, z4]))))
    | 11, hl, hT, hx => exact hx
    | 12, hl, hT, hx => exact hx
    | 13, hl, hT, hx => exact hx
    | 14, hl, hT, hx => exact hx
    | 15, hl, hT, hx => exact hx
    | 16, hl, hT, hx => exact hx
    | 17, hl, hT, hx => exact hx
    | 18, hl, hT, hx => exact hx
    | 19, hl, hT, hx => exact hx
    | 20, hl, hT, hx => exact hx
    | 21, hl, hT, hx => exact hx
    | 22, hl, hT, hx => exact hx
    | 23, hl, hT, hx => exact hx
    | 24, hl, hT, hx => exact hx
    | 25, hl, hT, hx => exact hx
    | 26, hl, hT, hx => exact hx
    | 27, hl, hT, hx => exact hx
    | n + 28, hl, hT, hx => exact hl.elim
