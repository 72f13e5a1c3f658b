/-! THE PLAIN LAW, 9: letters come and go on the side of the objects (printed by gen/mkspec.py) -/
set_option maxRecDepth 100000
theorem R.add_let {A ad : Ro → Nat} {s : Wo} {w w' : Hp} (h : R A ad s w) {gO gF d' cap : Nat} {L : Let} {sent mc : Int32} {f' : Nat → Option Nat} {ff : Nat → Int32}
    (hP : w' (ad c_lts) = some (.inr (7, [.int mc, rf d', .int (nI (s.c.nl + 1))]))) (hD : w' d' = some (aP 6 cap f')) (hc1 : s.c.nl + 1 ≤ cap) (hc2 : cap ≤ 128) (hf : ∀ j, j < s.c.nl → f' j = some (ad (c_lt j))) (hfn : f' s.c.nl = some gO)
    (hd' : (d' = ad c_lta ∧ s.ow 0 = true) ∨ w d' = none) (hO : w gO = some (.inr (4, [.int L.from_, .int L.to_, .int L.kind, .int L.key, rf gF, .int L.tn, .int sent]))) (hs : L.tn ≠ -1 → sent = L.g L.tn.toNatClampNeg)
    (hF : w gF = some (aE 0 6 ff)) (hff : ∀ j, j < 6 → ff j = L.f j) (aO : ∀ r, Lv s r → ad r ≠ gO) (aF : ∀ r, Lv s r → ad r ≠ gF) (hw : ∀ q, q ≠ ad c_lts → q ≠ d' → w' q = w q) :
    R A (adU (adU (adU ad (c_lf s.c.nl) gF) (c_lt s.c.nl) gO) c_lta d') ((s.s_c ((s.c.s_nl (s.c.nl + 1)).s_lt (upd1 s.c.lt s.c.nl L))).s_ow (upd1 s.ow 0 true)) w' := by
  obtain ⟨ad', had⟩ : ∃ z, z = adU (adU (adU ad (c_lf s.c.nl) gF) (c_lt s.c.nl) gO) c_lta d' := ⟨_, rfl⟩
  rw [← had]
  have a1 : ad' c_lta = d' := by rw [had, adU_s]
  have a2 : ad' (c_lt s.c.nl) = gO := by rw [had, adU_n (fun z => by cases z), adU_s]
  have a3 : ad' (c_lf s.c.nl) = gF := by rw [had, adU_n (fun z => by cases z), adU_n (fun z => by cases z), adU_s]
  have an : ∀ r, r ≠ c_lta → r ≠ c_lt s.c.nl → r ≠ c_lf s.c.nl → ad' r = ad r := fun r h1 h2 h3 => by rw [had, adU_n h1, adU_n h2, adU_n h3]
  have hdO : d' ≠ gO := fun z => by
    rcases hd' with ⟨q1, q2⟩ | q
    · exact aO c_lta (l_c_lta (s := s) q2) (q1.symm.trans z)
    · rw [z, hO] at q; cases q
  have hdF : d' ≠ gF := fun z => by
    rcases hd' with ⟨q1, q2⟩ | q
    · exact aF c_lta (l_c_lta (s := s) q2) (q1.symm.trans z)
    · rw [z, hF] at q; cases q
  have hOF : gO ≠ gF := fun z => by rw [z, hF] at hO; cases hO
  have hdr : ∀ r, Lv s r → r ≠ c_lta → ad r ≠ d' := fun r hl hr z => by
    rcases hd' with ⟨q1, q2⟩ | q
    · exact hr (h.inj _ _ hl (l_c_lta (s := s) q2) (z.trans q1))
    · exact h.apart q r hl z
  have wO : w' gO = w gO := hw _ (fun z => aO c_lts (l_c_lts (s := s)) z.symm) (Ne.symm hdO)
  have wF : w' gF = w gF := hw _ (fun z => aF c_lts (l_c_lts (s := s)) z.symm) (Ne.symm hdF)
  refine h.genC ((s.c.s_nl (s.c.nl + 1)).s_lt (upd1 s.c.lt s.c.nl L)) (upd1 s.ow 0 true) (fun q => q = (17, 0, 0, 0) ∨ q = (18, s.c.nl, 0, 0) ∨ q = (19, s.c.nl, 0, 0)) (fun q => q = (16, 0, 0, 0)) ?_ ?_ ?_ ?_ ?_ ?_ ?_ ?_ ?_
  · intro r hr
    exact an r (fun z => by subst z; exact absurd (show false = true from hr) (by decide)) (fun z => by subst z; exact absurd (show false = true from hr) (by decide)) (fun z => by subst z; exact absurd (show false = true from hr) (by decide))
  · intro q
    exact an _ (fun z => by cases z) (fun z => by cases z) (fun z => by cases z)
  · rintro ⟨t, a', b', k'⟩ hl hn
    refine ⟨?_, an _ (fun z => hn (Or.inl (Sum.inl.inj z))) (fun z => hn (Or.inr (Or.inl (Sum.inl.inj z)))) (fun z => hn (Or.inr (Or.inr (Sum.inl.inj z))))⟩
    match t, hl, hn with
    | 0, hl, hn => exact hl
    | 1, hl, hn => exact hl
    | 2, hl, hn => exact hl
    | 3, hl, hn => exact hl
    | 4, hl, hn => exact hl
    | 5, hl, hn => exact hl
    | 6, hl, hn => exact hl
    | 7, hl, hn => exact hl
    | 8, hl, hn => exact hl
    | 9, hl, hn => exact hl
    | 10, hl, hn => exact hl
    | 11, hl, hn => exact hl
    | 12, hl, hn => exact hl
    | 13, hl, hn => exact hl
    | 14, hl, hn => exact hl
    | 15, hl, hn => exact hl
    | 16, hl, hn => exact hl
    | 17, hl, hn => exact absurd (Or.inl (by obtain ⟨_, h1, h2, h3⟩ := hl; subst h1; subst h2; subst h3; rfl)) hn
    | 18, hl, hn =>
      obtain ⟨h1, h2, h3⟩ := hl
      subst h2; subst h3
      have h9 : a' ≠ s.c.nl := fun z => hn (Or.inr (Or.inl (by subst z; rfl)))
      have h8 : a' < s.c.nl + 1 := h1
      exact ⟨by show a' < s.c.nl; omega, rfl, rfl⟩
    | 19, hl, hn =>
      obtain ⟨h1, h2, h3⟩ := hl
      subst h2; subst h3
      have h9 : a' ≠ s.c.nl := fun z => hn (Or.inr (Or.inr (by subst z; rfl)))
      have h8 : a' < s.c.nl + 1 := h1
      exact ⟨by show a' < s.c.nl; omega, rfl, rfl⟩
    | 20, hl, hn => exact hl
    | 21, hl, hn => exact hl
    | 22, hl, hn => exact hl
    | 23, hl, hn => exact ⟨hl.1, (upd1_n (show ¬ 2 + a' = 0 by omega)).symm.trans hl.2.1, hl.2.2⟩
    | 24, hl, hn => exact hl
    | 25, hl, hn => exact hl
    | 26, hl, hn => exact hl
    | n + 27, hl, hn => exact hl.elim
  · rintro q hl (rfl | rfl | rfl) r hr hq
    · show ad r ≠ ad' c_lta
      rw [a1]
      exact hdr r hr (fun z => (hq _ z).2 (Or.inl rfl))
    · show ad r ≠ ad' (c_lt s.c.nl)
      rw [a2]; exact aO r hr
    · show ad r ≠ ad' (c_lf s.c.nl)
      rw [a3]; exact aF r hr
  · rintro q q' - hn - hn' e
    have e1 : ad' (.inl (17, 0, 0, 0)) = d' := a1
    have e2 : ad' (.inl (18, s.c.nl, 0, 0)) = gO := a2
    have e3 : ad' (.inl (19, s.c.nl, 0, 0)) = gF := a3
    rcases hn with rfl | rfl | rfl <;> rcases hn' with rfl | rfl | rfl <;> first | rfl | (simp only [e1, e2, e3] at e; first | exact absurd e hdO | exact absurd e hdF | exact absurd e hOF | exact absurd e.symm hdO | exact absurd e.symm hdF | exact absurd e.symm hOF)
  · intro r hl hq
    refine hw _ (fun z => ?_) (hdr r hl (fun z => (hq _ z).2.1 (Or.inl rfl)))
    exact (hq _ (h.inj _ _ hl (l_c_lts (s := s)) z)).2.2 rfl
  · rintro q hl ((rfl | rfl | rfl) | rfl)
    · show okD (w' (ad' c_lta)) (s.c.nl + 1) (fun i => ad' (c_lt i))
      rw [a1]
      refine ⟨cap, f', hD, hc1, by omega, hc2, fun i hi => ?_⟩
      by_cases hx : i = s.c.nl
      · subst hx; exact hfn.trans (congrArg Option.some a2.symm)
      · rw [hf i (by omega)]; exact congrArg Option.some (an (c_lt i) (fun z => by cases z) (fun z => hx (by cases z; rfl)) (fun z => by cases z)).symm
    · show ∃ sent : Int32, w' (ad' (c_lt s.c.nl)) = some (.inr (4, [.int (upd1 s.c.lt s.c.nl L s.c.nl).from_, .int (upd1 s.c.lt s.c.nl L s.c.nl).to_, .int (upd1 s.c.lt s.c.nl L s.c.nl).kind, .int (upd1 s.c.lt s.c.nl L s.c.nl).key, rf (ad' (c_lf s.c.nl)), .int (upd1 s.c.lt s.c.nl L s.c.nl).tn, .int sent])) ∧ ((upd1 s.c.lt s.c.nl L s.c.nl).tn ≠ -1 → sent = (upd1 s.c.lt s.c.nl L s.c.nl).g (upd1 s.c.lt s.c.nl L s.c.nl).tn.toNatClampNeg)
      rw [a2, a3, upd1_s, wO]
      exact ⟨sent, hO, hs⟩
    · show okA (w' (ad' (c_lf s.c.nl))) 0 6 (fun f => ∀ j, j < 6 → f j = (upd1 s.c.lt s.c.nl L s.c.nl).f j)
      rw [a3, upd1_s, wF]
      exact ⟨ff, hF, hff⟩
    · show okL (w' (ad' c_lts)) (upd1 s.ow 0 true 0) (ad' c_lta) (ad' c_e) (s.c.nl + 1)
      rw [an c_lts (fun z => by cases z) (fun z => by cases z) (fun z => by cases z), a1, upd1_s]
      exact ⟨mc, hP, fun z => by cases z⟩
  · rintro ⟨t, a', b', k'⟩ x hl hn hT hx
    have hx : OkC s.c s.ow ad' x (t, a', b', k') := by
      refine OkC.congr2 (fun q hk => an _ (fun z => ?_) (fun z => ?_) (fun z => ?_)) hx
      all_goals
        have z := Sum.inl.inj z
        subst z
        match t, hl, hn, hT, hk with
        | 0, hl, hn, hT, hk => simp [kidC] at hk
        | 1, hl, hn, hT, hk => simp [kidC] at hk
        | 2, hl, hn, hT, hk => simp [kidC] at hk
        | 3, hl, hn, hT, hk => simp [kidC] at hk
        | 4, hl, hn, hT, hk => simp [kidC] at hk
        | 5, hl, hn, hT, hk => simp [kidC] at hk
        | 6, hl, hn, hT, hk => simp [kidC] at hk
        | 7, hl, hn, hT, hk => simp [kidC] at hk
        | 8, hl, hn, hT, hk => simp [kidC] at hk
        | 9, hl, hn, hT, hk => simp [kidC] at hk
        | 10, hl, hn, hT, hk => simp [kidC] at hk
        | 11, hl, hn, hT, hk => simp [kidC] at hk
        | 12, hl, hn, hT, hk => simp [kidC] at hk
        | 13, hl, hn, hT, hk => simp [kidC] at hk
        | 14, hl, hn, hT, hk => simp [kidC] at hk
        | 15, hl, hn, hT, hk => simp [kidC] at hk
        | 16, hl, hn, hT, hk => exact hT (by obtain ⟨h1, h2, h3⟩ := hl; subst h1; subst h2; subst h3; rfl)
        | 17, hl, hn, hT, hk => exact hn (Or.inl (by obtain ⟨_, h1, h2, h3⟩ := hl; subst h1; subst h2; subst h3; rfl))
        | 18, hl, hn, hT, hk => first | (cases hk; done) | (have h9 : a' = s.c.nl := (by cases hk; rfl); exact hn (Or.inr (Or.inl (by obtain ⟨h1, h2, h3⟩ := hl; subst h9; subst h2; subst h3; rfl))))
        | 19, hl, hn, hT, hk => simp [kidC] at hk
        | 20, hl, hn, hT, hk => simp [kidC] at hk
        | 21, hl, hn, hT, hk => simp [kidC] at hk
        | 22, hl, hn, hT, hk => simp [kidC] at hk
        | 23, hl, hn, hT, hk => simp [kidC] at hk
        | 24, hl, hn, hT, hk => simp [kidC] at hk
        | 25, hl, hn, hT, hk => simp [kidC] at hk
        | 26, hl, hn, hT, hk => simp [kidC] at hk
        | n + 27, hl, hn, hT, hk => exact hl.elim
    match t, hl, hn, hT, hx with
    | 0, hl, hn, hT, hx => exact hx
    | 1, hl, hn, hT, hx => exact hx
    | 2, hl, hn, hT, hx => exact hx
    | 3, hl, hn, hT, hx => exact hx
    | 4, hl, hn, hT, hx => exact hx
    | 5, hl, hn, hT, hx => exact hx
    | 6, hl, hn, hT, hx => exact hx
    | 7, hl, hn, hT, hx => exact hx
    | 8, hl, hn, hT, hx => exact hx
    | 9, hl, hn, hT, hx => exact hx
    | 10, hl, hn, hT, hx => exact hx
    | 11, hl, hn, hT, hx => exact hx
    | 12, hl, hn, hT, hx => exact hx
    | 13, hl, hn, hT, hx => exact hx
    | 14, hl, hn, hT, hx => exact hx
    | 15, hl, hn, hT, hx => exact hx
    | 16, hl, hn, hT, hx => exact absurd (by obtain ⟨h1, h2, h3⟩ := hl; subst h1; subst h2; subst h3; rfl) hT
    | 17, hl, hn, hT, hx => exact absurd (Or.inl (by obtain ⟨_, h1, h2, h3⟩ := hl; subst h1; subst h2; subst h3; rfl)) hn
    | 18, hl, hn, hT, hx =>
      have h9 : ¬ a' = s.c.nl := fun z => hn (Or.inr (Or.inl (by obtain ⟨h1, h2, h3⟩ := hl; subst z; subst h2; subst h3; rfl)))
      show ∃ sent : Int32, x = some (.inr (4, [.int (upd1 s.c.lt s.c.nl L a').from_, .int (upd1 s.c.lt s.c.nl L a').to_, .int (upd1 s.c.lt s.c.nl L a').kind, .int (upd1 s.c.lt s.c.nl L a').key, rf (ad' (c_lf a')), .int (upd1 s.c.lt s.c.nl L a').tn, .int sent])) ∧ ((upd1 s.c.lt s.c.nl L a').tn ≠ -1 → sent = (upd1 s.c.lt s.c.nl L a').g (upd1 s.c.lt s.c.nl L a').tn.toNatClampNeg)
      rw [upd1_n h9]; exact hx
    | 19, hl, hn, hT, hx =>
      have h9 : ¬ a' = s.c.nl := fun z => hn (Or.inr (Or.inr (by obtain ⟨h1, h2, h3⟩ := hl; subst z; subst h2; subst h3; rfl)))
      show okA x 0 6 (fun f => ∀ j, j < 6 → f j = (upd1 s.c.lt s.c.nl L a').f j)
      rw [upd1_n h9]; exact hx
    | 20, hl, hn, hT, hx => exact hx
    | 21, hl, hn, hT, hx => exact hx
    | 22, hl, hn, hT, hx =>
      show okL x (upd1 s.ow 0 true (2 + a')) (ad' (c_rwd a')) (ad' c_e) (s.c.po a').length
      rw [upd1_n (show ¬ 2 + a' = 0 by omega)]; exact hx
    | 23, hl, hn, hT, hx => exact hx
    | 24, hl, hn, hT, hx => exact hx
    | 25, hl, hn, hT, hx => exact hx
    | 26, hl, hn, hT, hx => exact hx
    | n + 27, hl, hn, hT, hx => exact hl.elim
  · intro a ha
    by_cases h1 : a = ad c_lts
    · subst h1; rw [hP] at ha; cases ha
    · by_cases h2 : a = d'
      · subst h2; rw [hD] at ha; cases ha
      · rw [hw a h1 h2] at ha; exact h.ro a ha
theorem LvC_add {s : Wo} {L : Let} {q : Rq} (hl : LvC ((s.c.s_nl (s.c.nl + 1)).s_lt (upd1 s.c.lt s.c.nl L)) (upd1 s.ow 0 true) q) (hn : ¬ (q = (17, 0, 0, 0) ∨ q = (18, s.c.nl, 0, 0) ∨ q = (19, s.c.nl, 0, 0))) : LvC s.c s.ow q := by
  obtain ⟨t, a', b', k'⟩ := q
  match t, hl, hn with
  | 0, hl, hn => exact hl
  | 1, hl, hn => exact hl
  | 2, hl, hn => exact hl
  | 3, hl, hn => exact hl
  | 4, hl, hn => exact hl
  | 5, hl, hn => exact hl
  | 6, hl, hn => exact hl
  | 7, hl, hn => exact hl
  | 8, hl, hn => exact hl
  | 9, hl, hn => exact hl
  | 10, hl, hn => exact hl
  | 11, hl, hn => exact hl
  | 12, hl, hn => exact hl
  | 13, hl, hn => exact hl
  | 14, hl, hn => exact hl
  | 15, hl, hn => exact hl
  | 16, hl, hn => exact hl
  | 17, hl, hn => exact absurd (Or.inl (by obtain ⟨_, h1, h2, h3⟩ := hl; subst h1; subst h2; subst h3; rfl)) hn
  | 18, hl, hn =>
    obtain ⟨h1, h2, h3⟩ := hl
    subst h2; subst h3
    have h9 : a' ≠ s.c.nl := fun z => hn (Or.inr (Or.inl (by subst z; rfl)))
    have h8 : a' < s.c.nl + 1 := h1
    exact ⟨by show a' < s.c.nl; omega, rfl, rfl⟩
  | 19, hl, hn =>
    obtain ⟨h1, h2, h3⟩ := hl
    subst h2; subst h3
    have h9 : a' ≠ s.c.nl := fun z => hn (Or.inr (Or.inr (by subst z; rfl)))
    have h8 : a' < s.c.nl + 1 := h1
    exact ⟨by show a' < s.c.nl; omega, rfl, rfl⟩
  | 20, hl, hn => exact hl
  | 21, hl, hn => exact hl
  | 22, hl, hn => exact hl
  | 23, hl, hn => exact ⟨hl.1, (upd1_n (show ¬ 2 + a' = 0 by omega)).symm.trans hl.2.1, hl.2.2⟩
  | 24, hl, hn => exact hl
  | 25, hl, hn => exact hl
  | 26, hl, hn => exact hl
  | n + 27, hl, hn => exact hl.elim
