/-! THE PLAIN LAW, 9b: a letter goes on the side of the objects (printed by gen/mkspec2.py) -/
set_option maxRecDepth 100000
def rmL {α : Type} (f : Nat → α) (i : Nat) : Nat → α := fun j => if j < i then f j else f (j + 1)
theorem rmL_lt {α : Type} {f : Nat → α} {i j : Nat} (h : j < i) : rmL f i j = f j := if_pos h
theorem rmL_ge {α : Type} {f : Nat → α} {i j : Nat} (h : i ≤ j) : rmL f i j = f (j + 1) := if_neg (by omega)
def shL (ad : Ro → Nat) (i : Nat) : Ro → Nat := fun r => match r with
  | .inl q => if (q.1 = 18 ∨ q.1 = 19) ∧ i ≤ q.2.1 then ad (.inl (q.1, q.2.1 + 1, q.2.2)) else ad (.inl q)
  | .inr q => ad (.inr q)
theorem shL_n {ad : Ro → Nat} {i : Nat} {q : Rq} (h : ¬ ((q.1 = 18 ∨ q.1 = 19) ∧ i ≤ q.2.1)) : shL ad i (.inl q) = ad (.inl q) := if_neg h
theorem shL_s {ad : Ro → Nat} {i : Nat} {q : Rq} (h : (q.1 = 18 ∨ q.1 = 19) ∧ i ≤ q.2.1) : shL ad i (.inl q) = ad (.inl (q.1, q.2.1 + 1, q.2.2)) := if_pos h
theorem R.rem_let {A ad : Ro → Nat} {s : Wo} {w w' : Hp} (h : R A ad s w) {i cap : Nat} {mc : Int32} {f' : Nat → Option Nat} (hi : i < s.c.nl) (how : s.ow 0 = true)
    (hP : w' (ad c_lts) = some (.inr (7, [.int mc, rf (ad c_lta), .int (nI (s.c.nl - 1))]))) (hD : w' (ad c_lta) = some (aP 6 cap f')) (hc1 : s.c.nl ≤ cap) (hc2 : cap ≤ 128) (hf : ∀ j, j < s.c.nl - 1 → f' j = some (ad (c_lt (if j < i then j else j + 1)))) (hw : ∀ q, q ≠ ad c_lts → q ≠ ad c_lta → w' q = w q) :
    R A (shL ad i) (s.s_c ((s.c.s_nl (s.c.nl - 1)).s_lt (rmL s.c.lt i))) w' ∧ ∀ r, Lv (s.s_c ((s.c.s_nl (s.c.nl - 1)).s_lt (rmL s.c.lt i))) r → shL ad i r ≠ ad (c_lt i) ∧ shL ad i r ≠ ad (c_lf i) := by
  obtain ⟨ad', had⟩ : ∃ z, z = shL ad i := ⟨_, rfl⟩
  have hold : ∀ q, LvC ((s.c.s_nl (s.c.nl - 1)).s_lt (rmL s.c.lt i)) s.ow q → LvC s.c s.ow q := by
    rintro ⟨t, a', b', k'⟩ hl
    have hn := trivial
    match t, hl, hn with
    | 0, hl, hn => exact hl
    | 1, hl, hn => exact hl
    | 2, hl, hn => exact hl
    | 3, hl, hn => exact hl
    | 4, hl, hn => exact hl
    | 5, hl, hn => exact hl
    | 6, hl, hn => exact hl
    | 7, hl, hn => exact hl
    | 8, hl, hn => exact hl
    | 9, hl, hn => exact hl
    | 10, hl, hn => exact hl
    | 11, hl, hn => exact hl
    | 12, hl, hn => exact hl
    | 13, hl, hn => exact hl
    | 14, hl, hn => exact hl
    | 15, hl, hn => exact hl
    | 16, hl, hn => exact hl
    | 17, hl, hn => exact hl
    | 18, hl, hn =>
      obtain ⟨h1, h2, h3⟩ := hl
      have h8 : a' < s.c.nl - 1 := h1
      exact ⟨by show a' < s.c.nl; omega, h2, h3⟩
    | 19, hl, hn =>
      obtain ⟨h1, h2, h3⟩ := hl
      have h8 : a' < s.c.nl - 1 := h1
      exact ⟨by show a' < s.c.nl; omega, h2, h3⟩
    | 20, hl, hn => exact hl
    | 21, hl, hn => exact hl
    | 22, hl, hn => exact hl
    | 23, hl, hn => exact hl
    | 24, hl, hn => exact hl
    | 25, hl, hn => exact hl
    | 26, hl, hn => exact hl
    | n + 27, hl, hn => exact hl.elim
  have an : ∀ q : Rq, ¬ ((q.1 = 18 ∨ q.1 = 19) ∧ i ≤ q.2.1) → ad' (.inl q) = ad (.inl q) := fun q hq => by rw [had]; exact shL_n hq
  have as_ : ∀ q : Rq, (q.1 = 18 ∨ q.1 = 19) ∧ i ≤ q.2.1 → ad' (.inl q) = ad (.inl (q.1, q.2.1 + 1, q.2.2)) := fun q hq => by rw [had]; exact shL_s hq
  have lv1 : ∀ q : Rq, LvC ((s.c.s_nl (s.c.nl - 1)).s_lt (rmL s.c.lt i)) s.ow q → (q.1 = 18 ∨ q.1 = 19) ∧ i ≤ q.2.1 → Lv s (.inl (q.1, q.2.1 + 1, q.2.2)) := by
    rintro ⟨t, a', b', k'⟩ hl ⟨h1 | h1, h2⟩
    · have h1 : t = 18 := h1
      subst h1
      have h3 : a' < s.c.nl - 1 := hl.1
      exact ⟨by show a' + 1 < s.c.nl; omega, hl.2⟩
    · have h1 : t = 19 := h1
      subst h1
      have h3 : a' < s.c.nl - 1 := hl.1
      exact ⟨by show a' + 1 < s.c.nl; omega, hl.2⟩
  rw [← had]
  have llt : Lv s c_lta := l_c_lta (s := s) how
  refine ⟨?_, ?_⟩
  · refine h.genC ((s.c.s_nl (s.c.nl - 1)).s_lt (rmL s.c.lt i)) s.ow (fun q => (q.1 = 18 ∨ q.1 = 19) ∧ i ≤ q.2.1) (fun q => q = (16, 0, 0, 0) ∨ q = (17, 0, 0, 0)) ?_ ?_ ?_ ?_ ?_ ?_ ?_ ?_ ?_
    · rintro (q | q) hr
      · refine an q (fun z => ?_)
        obtain ⟨t, q2⟩ := q
        rcases z.1 with z1 | z1
        · have z1 : t = 18 := z1
          subst z1; exact absurd (show false = true from hr) (by decide)
        · have z1 : t = 19 := z1
          subst z1; exact absurd (show false = true from hr) (by decide)
      · rw [had]; rfl
    · intro q; rw [had]; rfl
    · exact fun q hl hn => ⟨hold q hl, an q hn⟩
    · intro q hl hn r hr hq z
      rw [as_ q hn] at z
      have e := h.inj _ _ hr (lv1 q hl hn) z
      exact (hq _ e).2 ⟨hn.1, by show i ≤ q.2.1 + 1; have := hn.2; omega⟩
    · intro q q' hl hn hl' hn' e
      rw [as_ q hn, as_ q' hn'] at e
      have e := Sum.inl.inj (h.inj _ _ (lv1 q hl hn) (lv1 q' hl' hn') e)
      obtain ⟨t, a1, r1⟩ := q
      obtain ⟨t', a1', r1'⟩ := q'
      simp only [Prod.mk.injEq] at e ⊢
      obtain ⟨e1, e2, e3⟩ := e
      exact ⟨e1, by omega, e3⟩
    · intro r hl hq
      exact hw _ (fun z => (hq _ (h.inj _ _ hl (l_c_lts (s := s)) z)).2.2 (Or.inl rfl)) (fun z => (hq _ (h.inj _ _ hl llt z)).2.2 (Or.inr rfl))
    · rintro q hl (hn | rfl | rfl)
      · rw [as_ q hn]
        have l1 := lv1 q hl hn
        rw [hw _ (fun z => by have e1 : q.1 = 16 := congrArg Prod.fst (Sum.inl.inj (h.inj _ _ l1 (l_c_lts (s := s)) z)); have := hn.1; omega) (fun z => by have e1 : q.1 = 17 := congrArg Prod.fst (Sum.inl.inj (h.inj _ _ l1 llt z)); have := hn.1; omega)]
        have ok := h.ok _ l1
        obtain ⟨t, a', b', k'⟩ := q
        obtain ⟨h1 | h1, h2⟩ := hn
        · have h1 : t = 18 := h1
          subst h1
          obtain ⟨-, e2, e3⟩ := hl
          have e2 : b' = 0 := e2
          have e3 : k' = 0 := e3
          subst e2; subst e3
          show ∃ sent : Int32, w (ad (c_lt (a' + 1))) = some (.inr (4, [.int (rmL s.c.lt i a').from_, .int (rmL s.c.lt i a').to_, .int (rmL s.c.lt i a').kind, .int (rmL s.c.lt i a').key, rf (ad' (c_lf a')), .int (rmL s.c.lt i a').tn, .int sent])) ∧ ((rmL s.c.lt i a').tn ≠ -1 → sent = (rmL s.c.lt i a').g (rmL s.c.lt i a').tn.toNatClampNeg)
          have e4 : ad' (c_lf a') = ad (c_lf (a' + 1)) := as_ (19, a', 0, 0) ⟨Or.inr rfl, h2⟩
          rw [e4, rmL_ge h2]
          exact ok
        · have h1 : t = 19 := h1
          subst h1
          obtain ⟨-, e2, e3⟩ := hl
          have e2 : b' = 0 := e2
          have e3 : k' = 0 := e3
          subst e2; subst e3
          show okA (w (ad (c_lf (a' + 1)))) 0 6 (fun f => ∀ j, j < 6 → f j = (rmL s.c.lt i a').f j)
          rw [rmL_ge h2]
          exact ok
      · show okL (w' (ad' c_lts)) (s.ow 0) (ad' c_lta) (ad' c_e) (s.c.nl - 1)
        have e1 : ad' c_lts = ad c_lts := an _ (fun z => by rcases z.1 with z1 | z1 <;> cases z1)
        have e2 : ad' c_lta = ad c_lta := an _ (fun z => by rcases z.1 with z1 | z1 <;> cases z1)
        rw [e1, e2, how]
        exact ⟨mc, hP, fun z => by cases z⟩
      · show okD (w' (ad' c_lta)) (s.c.nl - 1) (fun j => ad' (c_lt j))
        have e2 : ad' c_lta = ad c_lta := an _ (fun z => by rcases z.1 with z1 | z1 <;> cases z1)
        rw [e2]
        refine ⟨cap, f', hD, by omega, by omega, hc2, fun j hj => ?_⟩
        rw [hf j hj]
        by_cases hx : j < i
        · rw [if_pos hx]; exact congrArg Option.some (an (18, j, 0, 0) (fun z => absurd z.2 (by show ¬ i ≤ j; omega))).symm
        · rw [if_neg hx]; exact congrArg Option.some (as_ (18, j, 0, 0) ⟨Or.inl rfl, by show i ≤ j; omega⟩).symm
    · rintro ⟨t, a', b', k'⟩ x hl hn hT hx
      have hx : OkC s.c s.ow ad' x (t, a', b', k') := by
        refine OkC.congr2 (fun q hk => an q (fun z => ?_)) hx
        match t, hl, hn, hT, hk with
        | 0, hl, hn, hT, hk => rcases hk with rfl | rfl | rfl | rfl | rfl | rfl | rfl <;> (rcases z.1 with z1 | z1 <;> cases z1)
        | 1, hl, hn, hT, hk => exact hk.elim
        | 2, hl, hn, hT, hk => exact hk.elim
        | 3, hl, hn, hT, hk => rcases hk with ⟨x9, rfl⟩ <;> (rcases z.1 with z1 | z1 <;> cases z1)
        | 4, hl, hn, hT, hk => rcases hk with rfl | rfl | rfl <;> (rcases z.1 with z1 | z1 <;> cases z1)
        | 5, hl, hn, hT, hk => exact hk.elim
        | 6, hl, hn, hT, hk => exact hk.elim
        | 7, hl, hn, hT, hk => exact hk.elim
        | 8, hl, hn, hT, hk => rcases hk with ⟨x9, rfl⟩ <;> (rcases z.1 with z1 | z1 <;> cases z1)
        | 9, hl, hn, hT, hk => rcases hk with ⟨x9, rfl⟩ <;> (rcases z.1 with z1 | z1 <;> cases z1)
        | 10, hl, hn, hT, hk => rcases hk with rfl | rfl | rfl | rfl | rfl <;> (rcases z.1 with z1 | z1 <;> cases z1)
        | 11, hl, hn, hT, hk => rcases hk with ⟨x9, rfl⟩ <;> (rcases z.1 with z1 | z1 <;> cases z1)
        | 12, hl, hn, hT, hk => exact hk.elim
        | 13, hl, hn, hT, hk => rcases hk with rfl <;> (rcases z.1 with z1 | z1 <;> cases z1)
        | 14, hl, hn, hT, hk => exact hk.elim
        | 15, hl, hn, hT, hk => exact hk.elim
        | 16, hl, hn, hT, hk => exact hT (Or.inl (by obtain ⟨h1, h2, h3⟩ := hl; subst h1; subst h2; subst h3; rfl))
        | 17, hl, hn, hT, hk => exact hT (Or.inr (by obtain ⟨_, h1, h2, h3⟩ := hl; subst h1; subst h2; subst h3; rfl))
        | 18, hl, hn, hT, hk =>
          have h9 : q = (19, a', 0, 0) := hk
          subst h9
          exact hn ⟨Or.inl rfl, z.2⟩
        | 19, hl, hn, hT, hk => exact hk.elim
        | 20, hl, hn, hT, hk => rcases hk with rfl | rfl <;> (rcases z.1 with z1 | z1 <;> cases z1)
        | 21, hl, hn, hT, hk => rcases hk with ⟨x9, rfl⟩ <;> (rcases z.1 with z1 | z1 <;> cases z1)
        | 22, hl, hn, hT, hk => rcases hk with rfl | rfl <;> (rcases z.1 with z1 | z1 <;> cases z1)
        | 23, hl, hn, hT, hk => rcases hk with ⟨x9, rfl⟩ <;> (rcases z.1 with z1 | z1 <;> cases z1)
        | 24, hl, hn, hT, hk => exact hk.elim
        | 25, hl, hn, hT, hk => exact hk.elim
        | 26, hl, hn, hT, hk => exact hk.elim
        | n + 27, hl, hn, hT, hk => exact hl.elim
      match t, hl, hn, hT, hx with
    | 0, hl, hn, hT, hx => exact hx
    | 1, hl, hn, hT, hx => exact hx
    | 2, hl, hn, hT, hx => exact hx
    | 3, hl, hn, hT, hx => exact hx
    | 4, hl, hn, hT, hx => exact hx
    | 5, hl, hn, hT, hx => exact hx
    | 6, hl, hn, hT, hx => exact hx
    | 7, hl, hn, hT, hx => exact hx
    | 8, hl, hn, hT, hx => exact hx
    | 9, hl, hn, hT, hx => exact hx
    | 10, hl, hn, hT, hx => exact hx
    | 11, hl, hn, hT, hx => exact hx
    | 12, hl, hn, hT, hx => exact hx
    | 13, hl, hn, hT, hx => exact hx
    | 14, hl, hn, hT, hx => exact hx
    | 15, hl, hn, hT, hx => exact hx
    | 16, hl, hn, hT, hx => exact absurd (Or.inl (by obtain ⟨h1, h2, h3⟩ := hl; subst h1; subst h2; subst h3; rfl)) hT
    | 17, hl, hn, hT, hx => exact absurd (Or.inr (by obtain ⟨_, h1, h2, h3⟩ := hl; subst h1; subst h2; subst h3; rfl)) hT
    | 18, hl, hn, hT, hx =>
      have h9 : a' < i := by
        obtain ⟨h1, h2, h3⟩ := hl
        exact Nat.not_le.mp (fun z => hn ⟨Or.inl rfl, z⟩)
      show ∃ sent : Int32, x = some (.inr (4, [.int (rmL s.c.lt i a').from_, .int (rmL s.c.lt i a').to_, .int (rmL s.c.lt i a').kind, .int (rmL s.c.lt i a').key, rf (ad' (c_lf a')), .int (rmL s.c.lt i a').tn, .int sent])) ∧ ((rmL s.c.lt i a').tn ≠ -1 → sent = (rmL s.c.lt i a').g (rmL s.c.lt i a').tn.toNatClampNeg)
      rw [rmL_lt h9]; exact hx
    | 19, hl, hn, hT, hx =>
      have h9 : a' < i := by
        obtain ⟨h1, h2, h3⟩ := hl
        exact Nat.not_le.mp (fun z => hn ⟨Or.inr rfl, z⟩)
      show okA x 0 6 (fun f => ∀ j, j < 6 → f j = (rmL s.c.lt i a').f j)
      rw [rmL_lt h9]; exact hx
    | 20, hl, hn, hT, hx => exact hx
    | 21, hl, hn, hT, hx => exact hx
    | 22, hl, hn, hT, hx => exact hx
    | 23, hl, hn, hT, hx => exact hx
    | 24, hl, hn, hT, hx => exact hx
    | 25, hl, hn, hT, hx => exact hx
    | 26, hl, hn, hT, hx => exact hx
    | n + 27, hl, hn, hT, hx => exact hl.elim
    · intro a ha
      by_cases h1 : a = ad c_lts
      · subst h1; rw [hP] at ha; cases ha
      · by_cases h2 : a = ad c_lta
        · subst h2; rw [hD] at ha; cases ha
        · rw [hw a h1 h2] at ha; exact h.ro a ha
  · have key : ∀ r, Lv (s.s_c ((s.c.s_nl (s.c.nl - 1)).s_lt (rmL s.c.lt i))) r → ∃ r0, Lv s r0 ∧ ad' r = ad r0 ∧ r0 ≠ c_lt i ∧ r0 ≠ c_lf i := by
      rintro (q | q) hr
      · by_cases hn : (q.1 = 18 ∨ q.1 = 19) ∧ i ≤ q.2.1
        · refine ⟨_, lv1 q hr hn, as_ q hn, fun z => ?_, fun z => ?_⟩
          · have z := Sum.inl.inj z
            simp only [Prod.mk.injEq] at z
            have := hn.2; omega
          · have z := Sum.inl.inj z
            simp only [Prod.mk.injEq] at z
            have := hn.2; omega
        · refine ⟨_, show Lv s (.inl q) from hold q hr, an q hn, fun z => ?_, fun z => ?_⟩
          · have z := Sum.inl.inj z
            subst z; exact hn ⟨Or.inl rfl, Nat.le_refl _⟩
          · have z := Sum.inl.inj z
            subst z; exact hn ⟨Or.inr rfl, Nat.le_refl _⟩
      · exact ⟨.inr q, hr, by rw [had]; rfl, fun z => (by cases z), fun z => (by cases z)⟩
    intro r hr
    obtain ⟨r0, h1, h2, h3, h4⟩ := key r hr
    rw [h2]
    exact ⟨fun z => h3 (h.inj _ _ h1 (l_c_lt (s := s) hi) z), fun z => h4 (h.inj _ _ h1 (l_c_lf (s := s) hi) z)⟩
