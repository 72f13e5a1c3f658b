/-! THE PLAIN LAW, 4: simple writes on the side of the objects (printed by gen/mkset.py) -/
set_option maxRecDepth 100000
theorem upd2_n {α : Type} {f : Nat → Nat → α} {a b : Nat} {x : α} {i j : Nat} (h : ¬ (i = a ∧ j = b)) : upd2 f a b x i j = f i j := if_neg h
theorem upd2_s {α : Type} {f : Nat → Nat → α} {a b : Nat} {x : α} : upd2 f a b x a b = x := if_pos ⟨rfl, rfl⟩
theorem upd1_n {α : Type} {f : Nat → α} {a : Nat} {x : α} {i : Nat} (h : ¬ i = a) : upd1 f a x i = f i := if_neg h
theorem upd1_s {α : Type} {f : Nat → α} {a : Nat} {x : α} : upd1 f a x a = x := if_pos rfl
theorem upd3_n {α : Type} {f : Nat → Nat → Nat → α} {a b c : Nat} {x : α} {i j k : Nat} (h : ¬ (i = a ∧ j = b ∧ k = c)) : upd3 f a b c x i j k = f i j k := if_neg h
theorem upd3_s {α : Type} {f : Nat → Nat → Nat → α} {a b c : Nat} {x : α} : upd3 f a b c x a b c = x := if_pos ⟨rfl, rfl, rfl⟩
theorem oS_some {α : Type} {x : Option α} {z : α} {p : Nat} (h : x = some z) : oS x p = some p := by rw [h]; rfl
theorem oS_none {α : Type} {x : Option α} {p : Nat} (h : x = none) : oS x p = none := by rw [h]; rfl
theorem oS_upd3 {α : Type} {f : Nat → Nat → Nat → Option α} {a b c : Nat} {z z' : α} (hz : f a b c = some z) (i j k p : Nat) : oS (upd3 f a b c (some z') i j k) p = oS (f i j k) p := by
  by_cases hx : i = a ∧ j = b ∧ k = c
  · obtain ⟨rfl, rfl, rfl⟩ := hx
    rw [upd3_s, hz]; rfl
  · rw [upd3_n hx]
theorem some_upd3 {α : Type} {f : Nat → Nat → Nat → Option α} {a b c : Nat} {z z' : α} (hz : f a b c = some z) (i j k : Nat) : (upd3 f a b c (some z') i j k).isSome = (f i j k).isSome := by
  by_cases hx : i = a ∧ j = b ∧ k = c
  · obtain ⟨rfl, rfl, rfl⟩ := hx
    rw [upd3_s, hz]; rfl
  · rw [upd3_n hx]
theorem upd2_pfx_bits (f : Nat → Nat → Rt) (a k : Nat) (v : Int32) (i j : Nat) : (upd2 f a k ((f a k).s_pfx v) i j).bits = (f i j).bits := by
  unfold upd2
  split
  · rename_i hx; obtain ⟨rfl, rfl⟩ := hx; rfl
  · rfl
theorem upd2_pfx_peer (f : Nat → Nat → Rt) (a k : Nat) (v : Int32) (i j : Nat) : (upd2 f a k ((f a k).s_pfx v) i j).peer = (f i j).peer := by
  unfold upd2
  split
  · rename_i hx; obtain ⟨rfl, rfl⟩ := hx; rfl
  · rfl
theorem upd2_bits_pfx (f : Nat → Nat → Rt) (a k : Nat) (v : Int32) (i j : Nat) : (upd2 f a k ((f a k).s_bits v) i j).pfx = (f i j).pfx := by
  unfold upd2
  split
  · rename_i hx; obtain ⟨rfl, rfl⟩ := hx; rfl
  · rfl
theorem upd2_bits_peer (f : Nat → Nat → Rt) (a k : Nat) (v : Int32) (i j : Nat) : (upd2 f a k ((f a k).s_bits v) i j).peer = (f i j).peer := by
  unfold upd2
  split
  · rename_i hx; obtain ⟨rfl, rfl⟩ := hx; rfl
  · rfl
theorem upd2_peer_pfx (f : Nat → Nat → Rt) (a k : Nat) (v : Int32) (i j : Nat) : (upd2 f a k ((f a k).s_peer v) i j).pfx = (f i j).pfx := by
  unfold upd2
  split
  · rename_i hx; obtain ⟨rfl, rfl⟩ := hx; rfl
  · rfl
theorem upd2_peer_bits (f : Nat → Nat → Rt) (a k : Nat) (v : Int32) (i j : Nat) : (upd2 f a k ((f a k).s_peer v) i j).bits = (f i j).bits := by
  unfold upd2
  split
  · rename_i hx; obtain ⟨rfl, rfl⟩ := hx; rfl
  · rfl
theorem R.put_top {A ad : Ro → Nat} {s : Wo} {w : Hp} (h : R A ad s w) (v0 : Int32) (v1 : Nat) (v2 : Int32) : R A ad (s.s_c (((s.c.s_now v0).s_made v1).s_dlv v2)) (hu w (ad c_top) (.inr (0, [.int v0, .int (nI v1), .int v2, rf (ad c_addr), rf (ad c_load), rf (ad c_tabs), rf (ad c_sds), rf (ad c_lts), rf (ad c_rws), rf (ad c_co)]))) := by
  refine h.wrC (r := (0, 0, 0, 0)) (((s.c.s_now v0).s_made v1).s_dlv v2) s.ow (l_c_top (s := s)) (fun z => by cases z) ?_ ?_ ?_
  · exact fun _ z => z
  · rfl
  · rintro ⟨t, a', b', k'⟩ x hne hl h
    match t, hne, hl, h with
    | 0, hne, hl, h => exact absurd (by obtain ⟨h1, h2, h3⟩ := hl; subst h1; subst h2; subst h3; rfl) hne
    | 1, hne, hl, h => exact h
    | 2, hne, hl, h => exact h
    | 3, hne, hl, h => exact h
    | 4, hne, hl, h => exact h
    | 5, hne, hl, h => exact h
    | 6, hne, hl, h => exact h
    | 7, hne, hl, h => exact h
    | 8, hne, hl, h => exact h
    | 9, hne, hl, h => exact h
    | 10, hne, hl, h => exact h
    | 11, hne, hl, h => exact h
    | 12, hne, hl, h => exact h
    | 13, hne, hl, h => exact h
    | 14, hne, hl, h => exact h
    | 15, hne, hl, h => exact h
    | 16, hne, hl, h => exact h
    | 17, hne, hl, h => exact h
    | 18, hne, hl, h => exact h
    | 19, hne, hl, h => exact h
    | 20, hne, hl, h => exact h
    | 21, hne, hl, h => exact h
    | 22, hne, hl, h => exact h
    | 23, hne, hl, h => exact h
    | 24, hne, hl, h => exact h
    | 25, hne, hl, h => exact h
    | 26, hne, hl, h => exact h
    | n + 27, hne, hl, h => exact h
theorem R.put_addr {A ad : Ro → Nat} {s : Wo} {w : Hp} (h : R A ad s w) (f : Nat → Int32) : R A ad (s.s_c (s.c.s_addr f)) (hu w (ad c_addr) (aE 0 3 f)) := by
  refine h.wrC (r := (1, 0, 0, 0)) (s.c.s_addr f) s.ow (l_c_addr (s := s)) (fun z => by cases z) ?_ ?_ ?_
  · exact fun _ z => z
  · rfl
  · rintro ⟨t, a', b', k'⟩ x hne hl h
    match t, hne, hl, h with
    | 0, hne, hl, h => exact h
    | 1, hne, hl, h => exact absurd (by obtain ⟨h1, h2, h3⟩ := hl; subst h1; subst h2; subst h3; rfl) hne
    | 2, hne, hl, h => exact h
    | 3, hne, hl, h => exact h
    | 4, hne, hl, h => exact h
    | 5, hne, hl, h => exact h
    | 6, hne, hl, h => exact h
    | 7, hne, hl, h => exact h
    | 8, hne, hl, h => exact h
    | 9, hne, hl, h => exact h
    | 10, hne, hl, h => exact h
    | 11, hne, hl, h => exact h
    | 12, hne, hl, h => exact h
    | 13, hne, hl, h => exact h
    | 14, hne, hl, h => exact h
    | 15, hne, hl, h => exact h
    | 16, hne, hl, h => exact h
    | 17, hne, hl, h => exact h
    | 18, hne, hl, h => exact h
    | 19, hne, hl, h => exact h
    | 20, hne, hl, h => exact h
    | 21, hne, hl, h => exact h
    | 22, hne, hl, h => exact h
    | 23, hne, hl, h => exact h
    | 24, hne, hl, h => exact h
    | 25, hne, hl, h => exact h
    | 26, hne, hl, h => exact h
    | n + 27, hne, hl, h => exact h
theorem R.put_load {A ad : Ro → Nat} {s : Wo} {w : Hp} (h : R A ad s w) (f : Nat → Int32) : R A ad (s.s_c (s.c.s_load f)) (hu w (ad c_load) (aE 1 3 f)) := by
  refine h.wrC (r := (2, 0, 0, 0)) (s.c.s_load f) s.ow (l_c_load (s := s)) (fun z => by cases z) ?_ ?_ ?_
  · exact fun _ z => z
  · rfl
  · rintro ⟨t, a', b', k'⟩ x hne hl h
    match t, hne, hl, h with
    | 0, hne, hl, h => exact h
    | 1, hne, hl, h => exact h
    | 2, hne, hl, h => exact absurd (by obtain ⟨h1, h2, h3⟩ := hl; subst h1; subst h2; subst h3; rfl) hne
    | 3, hne, hl, h => exact h
    | 4, hne, hl, h => exact h
    | 5, hne, hl, h => exact h
    | 6, hne, hl, h => exact h
    | 7, hne, hl, h => exact h
    | 8, hne, hl, h => exact h
    | 9, hne, hl, h => exact h
    | 10, hne, hl, h => exact h
    | 11, hne, hl, h => exact h
    | 12, hne, hl, h => exact h
    | 13, hne, hl, h => exact h
    | 14, hne, hl, h => exact h
    | 15, hne, hl, h => exact h
    | 16, hne, hl, h => exact h
    | 17, hne, hl, h => exact h
    | 18, hne, hl, h => exact h
    | 19, hne, hl, h => exact h
    | 20, hne, hl, h => exact h
    | 21, hne, hl, h => exact h
    | 22, hne, hl, h => exact h
    | 23, hne, hl, h => exact h
    | 24, hne, hl, h => exact h
    | 25, hne, hl, h => exact h
    | 26, hne, hl, h => exact h
    | n + 27, hne, hl, h => exact h
theorem R.put_co {A ad : Ro → Nat} {s : Wo} {w : Hp} (h : R A ad s w) (f : Nat → Int32) : R A ad (s.s_c (s.c.s_co f)) (hu w (ad c_co) (aE 0 11 f)) := by
  refine h.wrC (r := (25, 0, 0, 0)) (s.c.s_co f) s.ow (l_c_co (s := s)) (fun z => by cases z) ?_ ?_ ?_
  · exact fun _ z => z
  · rfl
  · rintro ⟨t, a', b', k'⟩ x hne hl h
    match t, hne, hl, h with
    | 0, hne, hl, h => exact h
    | 1, hne, hl, h => exact h
    | 2, hne, hl, h => exact h
    | 3, hne, hl, h => exact h
    | 4, hne, hl, h => exact h
    | 5, hne, hl, h => exact h
    | 6, hne, hl, h => exact h
    | 7, hne, hl, h => exact h
    | 8, hne, hl, h => exact h
    | 9, hne, hl, h => exact h
    | 10, hne, hl, h => exact h
    | 11, hne, hl, h => exact h
    | 12, hne, hl, h => exact h
    | 13, hne, hl, h => exact h
    | 14, hne, hl, h => exact h
    | 15, hne, hl, h => exact h
    | 16, hne, hl, h => exact h
    | 17, hne, hl, h => exact h
    | 18, hne, hl, h => exact h
    | 19, hne, hl, h => exact h
    | 20, hne, hl, h => exact h
    | 21, hne, hl, h => exact h
    | 22, hne, hl, h => exact h
    | 23, hne, hl, h => exact h
    | 24, hne, hl, h => exact h
    | 25, hne, hl, h => exact absurd (by obtain ⟨h1, h2, h3⟩ := hl; subst h1; subst h2; subst h3; rfl) hne
    | 26, hne, hl, h => exact h
    | n + 27, hne, hl, h => exact h
theorem R.put_tpx {A ad : Ro → Nat} {s : Wo} {w : Hp} (h : R A ad s w) {a k : Nat} (ha : a < 3) {f : Nat → Int32} (hf : ∀ j, j < 8 → f j = (s.c.rt a j).pfx) (v : Int32) : R A ad (s.s_c (s.c.s_rt (upd2 s.c.rt a k ((s.c.rt a k).s_pfx v)))) (hu w (ad (c_tpx a)) (aE 0 8 (upd f k v))) := by
  refine h.wrC (r := (5, a, 0, 0)) (s.c.s_rt (upd2 s.c.rt a k ((s.c.rt a k).s_pfx v))) s.ow (l_c_tpx (s := s) ha) (fun z => by cases z) ?_ ?_ ?_
  · exact fun _ z => z
  · refine ⟨_, rfl, fun j hj => ?_⟩
    show (if j = k then v else f j) = (upd2 s.c.rt a k ((s.c.rt a k).s_pfx v) a j).pfx
    by_cases hq : j = k
    · subst hq; rw [if_pos rfl, upd2_s]; rfl
    · rw [if_neg hq, upd2_n (fun z => hq z.2), hf j hj]
  · rintro ⟨t, a', b', k'⟩ x hne hl h
    match t, hne, hl, h with
    | 0, hne, hl, h => exact h
    | 1, hne, hl, h => exact h
    | 2, hne, hl, h => exact h
    | 3, hne, hl, h => exact h
    | 4, hne, hl, h => exact h
    | 5, hne, hl, h =>
      have hx : ¬ a' = a := fun z => hne (by obtain ⟨_, h2, h3⟩ := hl; subst z; subst h2; subst h3; rfl)
      obtain ⟨f', h1, h2⟩ := h
      exact ⟨f', h1, fun j hj => (h2 j hj).trans (congrArg Rt.pfx (upd2_n (fun z => hx z.1)).symm)⟩
    | 6, hne, hl, h =>
      obtain ⟨f', h1, h2⟩ := h
      exact ⟨f', h1, fun j hj => (h2 j hj).trans (upd2_pfx_bits _ _ _ _ _ _).symm⟩
    | 7, hne, hl, h =>
      obtain ⟨f', h1, h2⟩ := h
      exact ⟨f', h1, fun j hj => (h2 j hj).trans (upd2_pfx_peer _ _ _ _ _ _).symm⟩
    | 8, hne, hl, h => exact h
    | 9, hne, hl, h => exact h
    | 10, hne, hl, h => exact h
    | 11, hne, hl, h => exact h
    | 12, hne, hl, h => exact h
    | 13, hne, hl, h => exact h
    | 14, hne, hl, h => exact h
    | 15, hne, hl, h => exact h
    | 16, hne, hl, h => exact h
    | 17, hne, hl, h => exact h
    | 18, hne, hl, h => exact h
    | 19, hne, hl, h => exact h
    | 20, hne, hl, h => exact h
    | 21, hne, hl, h => exact h
    | 22, hne, hl, h => exact h
    | 23, hne, hl, h => exact h
    | 24, hne, hl, h => exact h
    | 25, hne, hl, h => exact h
    | 26, hne, hl, h => exact h
    | n + 27, hne, hl, h => exact h
theorem R.put_tbi {A ad : Ro → Nat} {s : Wo} {w : Hp} (h : R A ad s w) {a k : Nat} (ha : a < 3) {f : Nat → Int32} (hf : ∀ j, j < 8 → f j = (s.c.rt a j).bits) (v : Int32) : R A ad (s.s_c (s.c.s_rt (upd2 s.c.rt a k ((s.c.rt a k).s_bits v)))) (hu w (ad (c_tbi a)) (aE 0 8 (upd f k v))) := by
  refine h.wrC (r := (6, a, 0, 0)) (s.c.s_rt (upd2 s.c.rt a k ((s.c.rt a k).s_bits v))) s.ow (l_c_tbi (s := s) ha) (fun z => by cases z) ?_ ?_ ?_
  · exact fun _ z => z
  · refine ⟨_, rfl, fun j hj => ?_⟩
    show (if j = k then v else f j) = (upd2 s.c.rt a k ((s.c.rt a k).s_bits v) a j).bits
    by_cases hq : j = k
    · subst hq; rw [if_pos rfl, upd2_s]; rfl
    · rw [if_neg hq, upd2_n (fun z => hq z.2), hf j hj]
  · rintro ⟨t, a', b', k'⟩ x hne hl h
    match t, hne, hl, h with
    | 0, hne, hl, h => exact h
    | 1, hne, hl, h => exact h
    | 2, hne, hl, h => exact h
    | 3, hne, hl, h => exact h
    | 4, hne, hl, h => exact h
    | 5, hne, hl, h =>
      obtain ⟨f', h1, h2⟩ := h
      exact ⟨f', h1, fun j hj => (h2 j hj).trans (upd2_bits_pfx _ _ _ _ _ _).symm⟩
    | 6, hne, hl, h =>
      have hx : ¬ a' = a := fun z => hne (by obtain ⟨_, h2, h3⟩ := hl; subst z; subst h2; subst h3; rfl)
      obtain ⟨f', h1, h2⟩ := h
      exact ⟨f', h1, fun j hj => (h2 j hj).trans (congrArg Rt.bits (upd2_n (fun z => hx z.1)).symm)⟩
    | 7, hne, hl, h =>
      obtain ⟨f', h1, h2⟩ := h
      exact ⟨f', h1, fun j hj => (h2 j hj).trans (upd2_bits_peer _ _ _ _ _ _).symm⟩
    | 8, hne, hl, h => exact h
    | 9, hne, hl, h => exact h
    | 10, hne, hl, h => exact h
    | 11, hne, hl, h => exact h
    | 12, hne, hl, h => exact h
    | 13, hne, hl, h => exact h
    | 14, hne, hl, h => exact h
    | 15, hne, hl, h => exact h
    | 16, hne, hl, h => exact h
    | 17, hne, hl, h => exact h
    | 18, hne, hl, h => exact h
    | 19, hne, hl, h => exact h
    | 20, hne, hl, h => exact h
    | 21, hne, hl, h => exact h
    | 22, hne, hl, h => exact h
    | 23, hne, hl, h => exact h
    | 24, hne, hl, h => exact h
    | 25, hne, hl, h => exact h
    | 26, hne, hl, h => exact h
    | n + 27, hne, hl, h => exact h
theorem R.put_tpe {A ad : Ro → Nat} {s : Wo} {w : Hp} (h : R A ad s w) {a k : Nat} (ha : a < 3) {f : Nat → Int32} (hf : ∀ j, j < 8 → f j = (s.c.rt a j).peer) (v : Int32) : R A ad (s.s_c (s.c.s_rt (upd2 s.c.rt a k ((s.c.rt a k).s_peer v)))) (hu w (ad (c_tpe a)) (aE 0 8 (upd f k v))) := by
  refine h.wrC (r := (7, a, 0, 0)) (s.c.s_rt (upd2 s.c.rt a k ((s.c.rt a k).s_peer v))) s.ow (l_c_tpe (s := s) ha) (fun z => by cases z) ?_ ?_ ?_
  · exact fun _ z => z
  · refine ⟨_, rfl, fun j hj => ?_⟩
    show (if j = k then v else f j) = (upd2 s.c.rt a k ((s.c.rt a k).s_peer v) a j).peer
    by_cases hq : j = k
    · subst hq; rw [if_pos rfl, upd2_s]; rfl
    · rw [if_neg hq, upd2_n (fun z => hq z.2), hf j hj]
  · rintro ⟨t, a', b', k'⟩ x hne hl h
    match t, hne, hl, h with
    | 0, hne, hl, h => exact h
    | 1, hne, hl, h => exact h
    | 2, hne, hl, h => exact h
    | 3, hne, hl, h => exact h
    | 4, hne, hl, h => exact h
    | 5, hne, hl, h =>
      obtain ⟨f', h1, h2⟩ := h
      exact ⟨f', h1, fun j hj => (h2 j hj).trans (upd2_peer_pfx _ _ _ _ _ _).symm⟩
    | 6, hne, hl, h =>
      obtain ⟨f', h1, h2⟩ := h
      exact ⟨f', h1, fun j hj => (h2 j hj).trans (upd2_peer_bits _ _ _ _ _ _).symm⟩
    | 7, hne, hl, h =>
      have hx : ¬ a' = a := fun z => hne (by obtain ⟨_, h2, h3⟩ := hl; subst z; subst h2; subst h3; rfl)
      obtain ⟨f', h1, h2⟩ := h
      exact ⟨f', h1, fun j hj => (h2 j hj).trans (congrArg Rt.peer (upd2_n (fun z => hx z.1)).symm)⟩
    | 8, hne, hl, h => exact h
    | 9, hne, hl, h => exact h
    | 10, hne, hl, h => exact h
    | 11, hne, hl, h => exact h
    | 12, hne, hl, h => exact h
    | 13, hne, hl, h => exact h
    | 14, hne, hl, h => exact h
    | 15, hne, hl, h => exact h
    | 16, hne, hl, h => exact h
    | 17, hne, hl, h => exact h
    | 18, hne, hl, h => exact h
    | 19, hne, hl, h => exact h
    | 20, hne, hl, h => exact h
    | 21, hne, hl, h => exact h
    | 22, hne, hl, h => exact h
    | 23, hne, hl, h => exact h
    | 24, hne, hl, h => exact h
    | 25, hne, hl, h => exact h
    | 26, hne, hl, h => exact h
    | n + 27, hne, hl, h => exact h
theorem R.put_nr {A ad : Ro → Nat} {s : Wo} {w : Hp} (h : R A ad s w) {a : Nat} (ha : a < 3) (n : Nat) : R A ad (s.s_c (s.c.s_nr (upd1 s.c.nr a n))) (hu w (ad (c_tab a)) (.inr (1, [rf (ad (c_tpx a)), rf (ad (c_tbi a)), rf (ad (c_tpe a)), .int (nI n)]))) := by
  refine h.wrC (r := (4, a, 0, 0)) (s.c.s_nr (upd1 s.c.nr a n)) s.ow (l_c_tab (s := s) ha) (fun z => by cases z) ?_ ?_ ?_
  · exact fun _ z => z
  · show Option.some _ = Option.some (Sum.inr (1, [_, _, _, Value.int (nI (upd1 s.c.nr a n a))])); rw [upd1_s]
  · rintro ⟨t, a', b', k'⟩ x hne hl h
    match t, hne, hl, h with
    | 0, hne, hl, h => exact h
    | 1, hne, hl, h => exact h
    | 2, hne, hl, h => exact h
    | 3, hne, hl, h => exact h
    | 4, hne, hl, h => have hx : ¬ a' = a := fun z => hne (by obtain ⟨_, h2, h3⟩ := hl; subst z; subst h2; subst h3; rfl); exact Eq.trans h (by show Option.some _ = Option.some (Sum.inr (1, [_, _, _, Value.int (nI (upd1 s.c.nr a n a'))])); rw [upd1_n hx])
    | 5, hne, hl, h => exact h
    | 6, hne, hl, h => exact h
    | 7, hne, hl, h => exact h
    | 8, hne, hl, h => exact h
    | 9, hne, hl, h => exact h
    | 10, hne, hl, h => exact h
    | 11, hne, hl, h => exact h
    | 12, hne, hl, h => exact h
    | 13, hne, hl, h => exact h
    | 14, hne, hl, h => exact h
    | 15, hne, hl, h => exact h
    | 16, hne, hl, h => exact h
    | 17, hne, hl, h => exact h
    | 18, hne, hl, h => exact h
    | 19, hne, hl, h => exact h
    | 20, hne, hl, h => exact h
    | 21, hne, hl, h => exact h
    | 22, hne, hl, h => exact h
    | 23, hne, hl, h => exact h
    | 24, hne, hl, h => exact h
    | 25, hne, hl, h => exact h
    | 26, hne, hl, h => exact h
    | n + 27, hne, hl, h => exact h
theorem R.put_kn {A ad : Ro → Nat} {s : Wo} {w : Hp} (h : R A ad s w) {a b : Nat} (ha : a < 3) (hb : b < 3) (v : Int32) : R A ad (s.s_c (s.c.s_kn (upd2 s.c.kn a b v))) (hu w (ad (c_sd a b)) (.inr (2, [.int v, va_rf (oS (s.c.se a b 0) (ad (c_se a b 0))), va_rf (oS (s.c.se a b 1) (ad (c_se a b 1))), va_rf (oS (s.c.se a b 2) (ad (c_se a b 2))), va_rf (oS (s.c.fl a b) (ad (c_fl a b))), .int (s.c.stT a b), .int (s.c.stS a b), .int (s.c.ck a b), .int (s.c.ckAt a b), rf (ad (c_pks a b)), .int (nI (s.c.nw a b))]))) := by
  refine h.wrC (r := (10, a, b, 0)) (s.c.s_kn (upd2 s.c.kn a b v)) s.ow (l_c_sd (s := s) ha hb) (fun z => by cases z) ?_ ?_ ?_
  · exact fun _ z => z
  · show Option.some _ = Option.some (Sum.inr (2, [Value.int (upd2 s.c.kn a b v a b), _, _, _, _, _, _, _, _, _, _])); rw [upd2_s]; rfl
  · rintro ⟨t, a', b', k'⟩ x hne hl h
    match t, hne, hl, h with
    | 0, hne, hl, h => exact h
    | 1, hne, hl, h => exact h
    | 2, hne, hl, h => exact h
    | 3, hne, hl, h => exact h
    | 4, hne, hl, h => exact h
    | 5, hne, hl, h => exact h
    | 6, hne, hl, h => exact h
    | 7, hne, hl, h => exact h
    | 8, hne, hl, h => exact h
    | 9, hne, hl, h => exact h
    | 10, hne, hl, h => have hx : ¬ (a' = a ∧ b' = b) := fun z => hne (by obtain ⟨_, _, h3⟩ := hl; obtain ⟨z1, z2⟩ := z; subst z1; subst z2; subst h3; rfl); exact Eq.trans h (by show Option.some _ = Option.some (Sum.inr (2, [Value.int (upd2 s.c.kn a b v a' b'), _, _, _, _, _, _, _, _, _, _])); rw [upd2_n hx]; rfl)
    | 11, hne, hl, h => exact h
    | 12, hne, hl, h => exact h
    | 13, hne, hl, h => exact h
    | 14, hne, hl, h => exact h
    | 15, hne, hl, h => exact h
    | 16, hne, hl, h => exact h
    | 17, hne, hl, h => exact h
    | 18, hne, hl, h => exact h
    | 19, hne, hl, h => exact h
    | 20, hne, hl, h => exact h
    | 21, hne, hl, h => exact h
    | 22, hne, hl, h => exact h
    | 23, hne, hl, h => exact h
    | 24, hne, hl, h => exact h
    | 25, hne, hl, h => exact h
    | 26, hne, hl, h => exact h
    | n + 27, hne, hl, h => exact h
theorem R.put_stT {A ad : Ro → Nat} {s : Wo} {w : Hp} (h : R A ad s w) {a b : Nat} (ha : a < 3) (hb : b < 3) (v : Int32) : R A ad (s.s_c (s.c.s_stT (upd2 s.c.stT a b v))) (hu w (ad (c_sd a b)) (.inr (2, [.int (s.c.kn a b), va_rf (oS (s.c.se a b 0) (ad (c_se a b 0))), va_rf (oS (s.c.se a b 1) (ad (c_se a b 1))), va_rf (oS (s.c.se a b 2) (ad (c_se a b 2))), va_rf (oS (s.c.fl a b) (ad (c_fl a b))), .int v, .int (s.c.stS a b), .int (s.c.ck a b), .int (s.c.ckAt a b), rf (ad (c_pks a b)), .int (nI (s.c.nw a b))]))) := by
  refine h.wrC (r := (10, a, b, 0)) (s.c.s_stT (upd2 s.c.stT a b v)) s.ow (l_c_sd (s := s) ha hb) (fun z => by cases z) ?_ ?_ ?_
  · exact fun _ z => z
  · show Option.some _ = Option.some (Sum.inr (2, [_, _, _, _, _, Value.int (upd2 s.c.stT a b v a b), _, _, _, _, _])); rw [upd2_s]; rfl
  · rintro ⟨t, a', b', k'⟩ x hne hl h
    match t, hne, hl, h with
    | 0, hne, hl, h => exact h
    | 1, hne, hl, h => exact h
    | 2, hne, hl, h => exact h
    | 3, hne, hl, h => exact h
    | 4, hne, hl, h => exact h
    | 5, hne, hl, h => exact h
    | 6, hne, hl, h => exact h
    | 7, hne, hl, h => exact h
    | 8, hne, hl, h => exact h
    | 9, hne, hl, h => exact h
    | 10, hne, hl, h => have hx : ¬ (a' = a ∧ b' = b) := fun z => hne (by obtain ⟨_, _, h3⟩ := hl; obtain ⟨z1, z2⟩ := z; subst z1; subst z2; subst h3; rfl); exact Eq.trans h (by show Option.some _ = Option.some (Sum.inr (2, [_, _, _, _, _, Value.int (upd2 s.c.stT a b v a' b'), _, _, _, _, _])); rw [upd2_n hx]; rfl)
    | 11, hne, hl, h => exact h
    | 12, hne, hl, h => exact h
    | 13, hne, hl, h => exact h
    | 14, hne, hl, h => exact h
    | 15, hne, hl, h => exact h
    | 16, hne, hl, h => exact h
    | 17, hne, hl, h => exact h
    | 18, hne, hl, h => exact h
    | 19, hne, hl, h => exact h
    | 20, hne, hl, h => exact h
    | 21, hne, hl, h => exact h
    | 22, hne, hl, h => exact h
    | 23, hne, hl, h => exact h
    | 24, hne, hl, h => exact h
    | 25, hne, hl, h => exact h
    | 26, hne, hl, h => exact h
    | n + 27, hne, hl, h => exact h
theorem R.put_stS {A ad : Ro → Nat} {s : Wo} {w : Hp} (h : R A ad s w) {a b : Nat} (ha : a < 3) (hb : b < 3) (v : Int32) : R A ad (s.s_c (s.c.s_stS (upd2 s.c.stS a b v))) (hu w (ad (c_sd a b)) (.inr (2, [.int (s.c.kn a b), va_rf (oS (s.c.se a b 0) (ad (c_se a b 0))), va_rf (oS (s.c.se a b 1) (ad (c_se a b 1))), va_rf (oS (s.c.se a b 2) (ad (c_se a b 2))), va_rf (oS (s.c.fl a b) (ad (c_fl a b))), .int (s.c.stT a b), .int v, .int (s.c.ck a b), .int (s.c.ckAt a b), rf (ad (c_pks a b)), .int (nI (s.c.nw a b))]))) := by
  refine h.wrC (r := (10, a, b, 0)) (s.c.s_stS (upd2 s.c.stS a b v)) s.ow (l_c_sd (s := s) ha hb) (fun z => by cases z) ?_ ?_ ?_
  · exact fun _ z => z
  · show Option.some _ = Option.some (Sum.inr (2, [_, _, _, _, _, _, Value.int (upd2 s.c.stS a b v a b), _, _, _, _])); rw [upd2_s]; rfl
  · rintro ⟨t, a', b', k'⟩ x hne hl h
    match t, hne, hl, h with
    | 0, hne, hl, h => exact h
    | 1, hne, hl, h => exact h
    | 2, hne, hl, h => exact h
    | 3, hne, hl, h => exact h
    | 4, hne, hl, h => exact h
    | 5, hne, hl, h => exact h
    | 6, hne, hl, h => exact h
    | 7, hne, hl, h => exact h
    | 8, hne, hl, h => exact h
    | 9, hne, hl, h => exact h
    | 10, hne, hl, h => have hx : ¬ (a' = a ∧ b' = b) := fun z => hne (by obtain ⟨_, _, h3⟩ := hl; obtain ⟨z1, z2⟩ := z; subst z1; subst z2; subst h3; rfl); exact Eq.trans h (by show Option.some _ = Option.some (Sum.inr (2, [_, _, _, _, _, _, Value.int (upd2 s.c.stS a b v a' b'), _, _, _, _])); rw [upd2_n hx]; rfl)
    | 11, hne, hl, h => exact h
    | 12, hne, hl, h => exact h
    | 13, hne, hl, h => exact h
    | 14, hne, hl, h => exact h
    | 15, hne, hl, h => exact h
    | 16, hne, hl, h => exact h
    | 17, hne, hl, h => exact h
    | 18, hne, hl, h => exact h
    | 19, hne, hl, h => exact h
    | 20, hne, hl, h => exact h
    | 21, hne, hl, h => exact h
    | 22, hne, hl, h => exact h
    | 23, hne, hl, h => exact h
    | 24, hne, hl, h => exact h
    | 25, hne, hl, h => exact h
    | 26, hne, hl, h => exact h
    | n + 27, hne, hl, h => exact h
theorem R.put_ck {A ad : Ro → Nat} {s : Wo} {w : Hp} (h : R A ad s w) {a b : Nat} (ha : a < 3) (hb : b < 3) (v : Int32) : R A ad (s.s_c (s.c.s_ck (upd2 s.c.ck a b v))) (hu w (ad (c_sd a b)) (.inr (2, [.int (s.c.kn a b), va_rf (oS (s.c.se a b 0) (ad (c_se a b 0))), va_rf (oS (s.c.se a b 1) (ad (c_se a b 1))), va_rf (oS (s.c.se a b 2) (ad (c_se a b 2))), va_rf (oS (s.c.fl a b) (ad (c_fl a b))), .int (s.c.stT a b), .int (s.c.stS a b), .int v, .int (s.c.ckAt a b), rf (ad (c_pks a b)), .int (nI (s.c.nw a b))]))) := by
  refine h.wrC (r := (10, a, b, 0)) (s.c.s_ck (upd2 s.c.ck a b v)) s.ow (l_c_sd (s := s) ha hb) (fun z => by cases z) ?_ ?_ ?_
  · exact fun _ z => z
  · show Option.some _ = Option.some (Sum.inr (2, [_, _, _, _, _, _, _, Value.int (upd2 s.c.ck a b v a b), _, _, _])); rw [upd2_s]; rfl
  · rintro ⟨t, a', b', k'⟩ x hne hl h
    match t, hne, hl, h with
    | 0, hne, hl, h => exact h
    | 1, hne, hl, h => exact h
    | 2, hne, hl, h => exact h
    | 3, hne, hl, h => exact h
    | 4, hne, hl, h => exact h
    | 5, hne, hl, h => exact h
    | 6, hne, hl, h => exact h
    | 7, hne, hl, h => exact h
    | 8, hne, hl, h => exact h
    | 9, hne, hl, h => exact h
    | 10, hne, hl, h => have hx : ¬ (a' = a ∧ b' = b) := fun z => hne (by obtain ⟨_, _, h3⟩ := hl; obtain ⟨z1, z2⟩ := z; subst z1; subst z2; subst h3; rfl); exact Eq.trans h (by show Option.some _ = Option.some (Sum.inr (2, [_, _, _, _, _, _, _, Value.int (upd2 s.c.ck a b v a' b'), _, _, _])); rw [upd2_n hx]; rfl)
    | 11, hne, hl, h => exact h
    | 12, hne, hl, h => exact h
    | 13, hne, hl, h => exact h
    | 14, hne, hl, h => exact h
    | 15, hne, hl, h => exact h
    | 16, hne, hl, h => exact h
    | 17, hne, hl, h => exact h
    | 18, hne, hl, h => exact h
    | 19, hne, hl, h => exact h
    | 20, hne, hl, h => exact h
    | 21, hne, hl, h => exact h
    | 22, hne, hl, h => exact h
    | 23, hne, hl, h => exact h
    | 24, hne, hl, h => exact h
    | 25, hne, hl, h => exact h
    | 26, hne, hl, h => exact h
    | n + 27, hne, hl, h => exact h
theorem R.put_ckAt {A ad : Ro → Nat} {s : Wo} {w : Hp} (h : R A ad s w) {a b : Nat} (ha : a < 3) (hb : b < 3) (v : Int32) : R A ad (s.s_c (s.c.s_ckAt (upd2 s.c.ckAt a b v))) (hu w (ad (c_sd a b)) (.inr (2, [.int (s.c.kn a b), va_rf (oS (s.c.se a b 0) (ad (c_se a b 0))), va_rf (oS (s.c.se a b 1) (ad (c_se a b 1))), va_rf (oS (s.c.se a b 2) (ad (c_se a b 2))), va_rf (oS (s.c.fl a b) (ad (c_fl a b))), .int (s.c.stT a b), .int (s.c.stS a b), .int (s.c.ck a b), .int v, rf (ad (c_pks a b)), .int (nI (s.c.nw a b))]))) := by
  refine h.wrC (r := (10, a, b, 0)) (s.c.s_ckAt (upd2 s.c.ckAt a b v)) s.ow (l_c_sd (s := s) ha hb) (fun z => by cases z) ?_ ?_ ?_
  · exact fun _ z => z
  · show Option.some _ = Option.some (Sum.inr (2, [_, _, _, _, _, _, _, _, Value.int (upd2 s.c.ckAt a b v a b), _, _])); rw [upd2_s]; rfl
  · rintro ⟨t, a', b', k'⟩ x hne hl h
    match t, hne, hl, h with
    | 0, hne, hl, h => exact h
    | 1, hne, hl, h => exact h
    | 2, hne, hl, h => exact h
    | 3, hne, hl, h => exact h
    | 4, hne, hl, h => exact h
    | 5, hne, hl, h => exact h
    | 6, hne, hl, h => exact h
    | 7, hne, hl, h => exact h
    | 8, hne, hl, h => exact h
    | 9, hne, hl, h => exact h
    | 10, hne, hl, h => have hx : ¬ (a' = a ∧ b' = b) := fun z => hne (by obtain ⟨_, _, h3⟩ := hl; obtain ⟨z1, z2⟩ := z; subst z1; subst z2; subst h3; rfl); exact Eq.trans h (by show Option.some _ = Option.some (Sum.inr (2, [_, _, _, _, _, _, _, _, Value.int (upd2 s.c.ckAt a b v a' b'), _, _])); rw [upd2_n hx]; rfl)
    | 11, hne, hl, h => exact h
    | 12, hne, hl, h => exact h
    | 13, hne, hl, h => exact h
    | 14, hne, hl, h => exact h
    | 15, hne, hl, h => exact h
    | 16, hne, hl, h => exact h
    | 17, hne, hl, h => exact h
    | 18, hne, hl, h => exact h
    | 19, hne, hl, h => exact h
    | 20, hne, hl, h => exact h
    | 21, hne, hl, h => exact h
    | 22, hne, hl, h => exact h
    | 23, hne, hl, h => exact h
    | 24, hne, hl, h => exact h
    | 25, hne, hl, h => exact h
    | 26, hne, hl, h => exact h
    | n + 27, hne, hl, h => exact h
theorem R.put_se {A ad : Ro → Nat} {s : Wo} {w : Hp} (h : R A ad s w) {a b k : Nat} (ha : a < 3) (hb : b < 3) (hk : k < 3) {z : Ses} (hz : s.c.se a b k = Option.some z) (z' : Ses) (hs : z'.seen = z.seen) : R A ad (s.s_c (s.c.s_se (upd3 s.c.se a b k (Option.some z')))) (hu w (ad (c_se a b k)) (.inr (6, [.int z'.idx, .int z'.oth, .int z'.made, .int z'.snd_, .int z'.rcv, .int z'.beg, rf (ad (c_sn a b k)), .int z'.sl, .int z'.top, .int z'.took]))) := by
  refine h.wrC (r := (13, a, b, k)) (s.c.s_se (upd3 s.c.se a b k (Option.some z'))) s.ow (l_c_se (s := s) ha hb hk (by rw [hz]; rfl)) (fun z => by cases z) ?_ ?_ ?_
  · rintro ⟨t, a', b', k'⟩ hl
    match t, hl with
    | 0, hl => exact hl
    | 1, hl => exact hl
    | 2, hl => exact hl
    | 3, hl => exact hl
    | 4, hl => exact hl
    | 5, hl => exact hl
    | 6, hl => exact hl
    | 7, hl => exact hl
    | 8, hl => exact hl
    | 9, hl => exact hl
    | 10, hl => exact hl
    | 11, hl => exact hl
    | 12, hl => exact hl
    | 13, hl => exact ⟨hl.1, hl.2.1, hl.2.2.1, (some_upd3 hz _ _ _).symm.trans hl.2.2.2⟩
    | 14, hl => exact ⟨hl.1, hl.2.1, hl.2.2.1, (some_upd3 hz _ _ _).symm.trans hl.2.2.2⟩
    | 15, hl => exact hl
    | 16, hl => exact hl
    | 17, hl => exact hl
    | 18, hl => exact hl
    | 19, hl => exact hl
    | 20, hl => exact hl
    | 21, hl => exact hl
    | 22, hl => exact hl
    | 23, hl => exact hl
    | 24, hl => exact hl
    | 25, hl => exact hl
    | 26, hl => exact hl
    | n + 27, hl => exact hl
  · intro z9 h9; have h8 : z9 = z' := Option.some.inj (h9.symm.trans upd3_s); subst h8; rfl
  · rintro ⟨t, a', b', k'⟩ x hne hl h
    match t, hne, hl, h with
    | 0, hne, hl, h => exact h
    | 1, hne, hl, h => exact h
    | 2, hne, hl, h => exact h
    | 3, hne, hl, h => exact h
    | 4, hne, hl, h => exact h
    | 5, hne, hl, h => exact h
    | 6, hne, hl, h => exact h
    | 7, hne, hl, h => exact h
    | 8, hne, hl, h => exact h
    | 9, hne, hl, h => exact h
    | 10, hne, hl, h => exact Eq.trans h (by show Option.some _ = Option.some (Sum.inr (2, [_, va_rf (oS (upd3 s.c.se a b k (Option.some z') a' b' 0) _), va_rf (oS (upd3 s.c.se a b k (Option.some z') a' b' 1) _), va_rf (oS (upd3 s.c.se a b k (Option.some z') a' b' 2) _), _, _, _, _, _, _, _])); rw [oS_upd3 hz, oS_upd3 hz, oS_upd3 hz]; rfl)
    | 11, hne, hl, h => exact h
    | 12, hne, hl, h => exact h
    | 13, hne, hl, h => have hx : ¬ (a' = a ∧ b' = b ∧ k' = k) := fun z => hne (by obtain ⟨z1, z2, z3⟩ := z; subst z1; subst z2; subst z3; rfl); intro z9 h9; exact h z9 ((upd3_n hx).symm.trans h9)
    | 14, hne, hl, h =>
      by_cases hx : a' = a ∧ b' = b ∧ k' = k
      · obtain ⟨rfl, rfl, rfl⟩ := hx; intro z9 h9; have h8 : z9 = z' := Option.some.inj (h9.symm.trans upd3_s); subst h8; rw [hs]; exact h z hz
      · intro z9 h9; exact h z9 ((upd3_n hx).symm.trans h9)
    | 15, hne, hl, h => exact h
    | 16, hne, hl, h => exact h
    | 17, hne, hl, h => exact h
    | 18, hne, hl, h => exact h
    | 19, hne, hl, h => exact h
    | 20, hne, hl, h => exact h
    | 21, hne, hl, h => exact h
    | 22, hne, hl, h => exact h
    | 23, hne, hl, h => exact h
    | 24, hne, hl, h => exact h
    | 25, hne, hl, h => exact h
    | 26, hne, hl, h => exact h
    | n + 27, hne, hl, h => exact h
theorem R.put_sn {A ad : Ro → Nat} {s : Wo} {w : Hp} (h : R A ad s w) {a b k : Nat} (ha : a < 3) (hb : b < 3) (hk : k < 3) {z : Ses} (hz : s.c.se a b k = Option.some z) (z' : Ses) (hs : ∃ g, z' = z.s_seen g) : R A ad (s.s_c (s.c.s_se (upd3 s.c.se a b k (Option.some z')))) (hu w (ad (c_sn a b k)) (aE 1 40 z'.seen)) := by
  refine h.wrC (r := (14, a, b, k)) (s.c.s_se (upd3 s.c.se a b k (Option.some z'))) s.ow (l_c_sn (s := s) ha hb hk (by rw [hz]; rfl)) (fun z => by cases z) ?_ ?_ ?_
  · rintro ⟨t, a', b', k'⟩ hl
    match t, hl with
    | 0, hl => exact hl
    | 1, hl => exact hl
    | 2, hl => exact hl
    | 3, hl => exact hl
    | 4, hl => exact hl
    | 5, hl => exact hl
    | 6, hl => exact hl
    | 7, hl => exact hl
    | 8, hl => exact hl
    | 9, hl => exact hl
    | 10, hl => exact hl
    | 11, hl => exact hl
    | 12, hl => exact hl
    | 13, hl => exact ⟨hl.1, hl.2.1, hl.2.2.1, (some_upd3 hz _ _ _).symm.trans hl.2.2.2⟩
    | 14, hl => exact ⟨hl.1, hl.2.1, hl.2.2.1, (some_upd3 hz _ _ _).symm.trans hl.2.2.2⟩
    | 15, hl => exact hl
    | 16, hl => exact hl
    | 17, hl => exact hl
    | 18, hl => exact hl
    | 19, hl => exact hl
    | 20, hl => exact hl
    | 21, hl => exact hl
    | 22, hl => exact hl
    | 23, hl => exact hl
    | 24, hl => exact hl
    | 25, hl => exact hl
    | 26, hl => exact hl
    | n + 27, hl => exact hl
  · intro z9 h9; have h8 : z9 = z' := Option.some.inj (h9.symm.trans upd3_s); subst h8; rfl
  · rintro ⟨t, a', b', k'⟩ x hne hl h
    match t, hne, hl, h with
    | 0, hne, hl, h => exact h
    | 1, hne, hl, h => exact h
    | 2, hne, hl, h => exact h
    | 3, hne, hl, h => exact h
    | 4, hne, hl, h => exact h
    | 5, hne, hl, h => exact h
    | 6, hne, hl, h => exact h
    | 7, hne, hl, h => exact h
    | 8, hne, hl, h => exact h
    | 9, hne, hl, h => exact h
    | 10, hne, hl, h => exact Eq.trans h (by show Option.some _ = Option.some (Sum.inr (2, [_, va_rf (oS (upd3 s.c.se a b k (Option.some z') a' b' 0) _), va_rf (oS (upd3 s.c.se a b k (Option.some z') a' b' 1) _), va_rf (oS (upd3 s.c.se a b k (Option.some z') a' b' 2) _), _, _, _, _, _, _, _])); rw [oS_upd3 hz, oS_upd3 hz, oS_upd3 hz]; rfl)
    | 11, hne, hl, h => exact h
    | 12, hne, hl, h => exact h
    | 13, hne, hl, h =>
      by_cases hx : a' = a ∧ b' = b ∧ k' = k
      · obtain ⟨rfl, rfl, rfl⟩ := hx; intro z9 h9; have h8 : z9 = z' := Option.some.inj (h9.symm.trans upd3_s); subst h8; obtain ⟨g, hg⟩ := hs; subst hg; exact h z hz
      · intro z9 h9; exact h z9 ((upd3_n hx).symm.trans h9)
    | 14, hne, hl, h => have hx : ¬ (a' = a ∧ b' = b ∧ k' = k) := fun z => hne (by obtain ⟨z1, z2, z3⟩ := z; subst z1; subst z2; subst z3; rfl); intro z9 h9; exact h z9 ((upd3_n hx).symm.trans h9)
    | 15, hne, hl, h => exact h
    | 16, hne, hl, h => exact h
    | 17, hne, hl, h => exact h
    | 18, hne, hl, h => exact h
    | 19, hne, hl, h => exact h
    | 20, hne, hl, h => exact h
    | 21, hne, hl, h => exact h
    | 22, hne, hl, h => exact h
    | 23, hne, hl, h => exact h
    | 24, hne, hl, h => exact h
    | 25, hne, hl, h => exact h
    | 26, hne, hl, h => exact h
    | n + 27, hne, hl, h => exact h
theorem R.put_lt {A ad : Ro → Nat} {s : Wo} {w : Hp} (h : R A ad s w) {i : Nat} (hi : i < s.c.nl) (l' : Let) (hf : l'.f = (s.c.lt i).f) (sent : Int32) (hs : l'.tn ≠ -1 → sent = l'.g l'.tn.toNatClampNeg) : R A ad (s.s_c (s.c.s_lt (upd1 s.c.lt i l'))) (hu w (ad (c_lt i)) (.inr (4, [.int l'.from_, .int l'.to_, .int l'.kind, .int l'.key, rf (ad (c_lf i)), .int l'.tn, .int sent]))) := by
  refine h.wrC (r := (18, i, 0, 0)) (s.c.s_lt (upd1 s.c.lt i l')) s.ow (l_c_lt (s := s) hi) (fun z => by cases z) ?_ ?_ ?_
  · exact fun _ z => z
  · show ∃ sent9 : Int32, _ = Option.some (Sum.inr (4, [Value.int (upd1 s.c.lt i l' i).from_, Value.int (upd1 s.c.lt i l' i).to_, Value.int (upd1 s.c.lt i l' i).kind, Value.int (upd1 s.c.lt i l' i).key, _, Value.int (upd1 s.c.lt i l' i).tn, _])) ∧ ((upd1 s.c.lt i l' i).tn ≠ -1 → sent9 = (upd1 s.c.lt i l' i).g (upd1 s.c.lt i l' i).tn.toNatClampNeg); rw [upd1_s]; exact ⟨sent, rfl, hs⟩
  · rintro ⟨t, a', b', k'⟩ x hne hl h
    match t, hne, hl, h with
    | 0, hne, hl, h => exact h
    | 1, hne, hl, h => exact h
    | 2, hne, hl, h => exact h
    | 3, hne, hl, h => exact h
    | 4, hne, hl, h => exact h
    | 5, hne, hl, h => exact h
    | 6, hne, hl, h => exact h
    | 7, hne, hl, h => exact h
    | 8, hne, hl, h => exact h
    | 9, hne, hl, h => exact h
    | 10, hne, hl, h => exact h
    | 11, hne, hl, h => exact h
    | 12, hne, hl, h => exact h
    | 13, hne, hl, h => exact h
    | 14, hne, hl, h => exact h
    | 15, hne, hl, h => exact h
    | 16, hne, hl, h => exact h
    | 17, hne, hl, h => exact h
    | 18, hne, hl, h => have hx : ¬ a' = i := fun z => hne (by obtain ⟨_, h2, h3⟩ := hl; subst z; subst h2; subst h3; rfl); show ∃ sent9 : Int32, _ = Option.some (Sum.inr (4, [Value.int (upd1 s.c.lt i l' a').from_, Value.int (upd1 s.c.lt i l' a').to_, Value.int (upd1 s.c.lt i l' a').kind, Value.int (upd1 s.c.lt i l' a').key, _, Value.int (upd1 s.c.lt i l' a').tn, _])) ∧ ((upd1 s.c.lt i l' a').tn ≠ -1 → sent9 = (upd1 s.c.lt i l' a').g (upd1 s.c.lt i l' a').tn.toNatClampNeg); rw [upd1_n hx]; exact h
    | 19, hne, hl, h =>
      obtain ⟨f9, h1, h2⟩ := h; refine ⟨f9, h1, fun j hj => (h2 j hj).trans ?_⟩; show _ = (upd1 s.c.lt i l' a').f j; by_cases hq : a' = i
      · subst hq; rw [upd1_s, hf]
      · rw [upd1_n hq]
    | 20, hne, hl, h => exact h
    | 21, hne, hl, h => exact h
    | 22, hne, hl, h => exact h
    | 23, hne, hl, h => exact h
    | 24, hne, hl, h => exact h
    | 25, hne, hl, h => exact h
    | 26, hne, hl, h => exact h
    | n + 27, hne, hl, h => exact h
theorem R.put_lf {A ad : Ro → Nat} {s : Wo} {w : Hp} (h : R A ad s w) {i : Nat} (hi : i < s.c.nl) (l' : Let) (hl' : ∃ g, l' = (s.c.lt i).s_f g) (f : Nat → Int32) (hf : ∀ j, j < 6 → f j = l'.f j) : R A ad (s.s_c (s.c.s_lt (upd1 s.c.lt i l'))) (hu w (ad (c_lf i)) (aE 0 6 f)) := by
  refine h.wrC (r := (19, i, 0, 0)) (s.c.s_lt (upd1 s.c.lt i l')) s.ow (l_c_lf (s := s) hi) (fun z => by cases z) ?_ ?_ ?_
  · exact fun _ z => z
  · refine ⟨_, rfl, fun j hj => ?_⟩; show f j = (upd1 s.c.lt i l' i).f j; rw [upd1_s]; exact hf j hj
  · rintro ⟨t, a', b', k'⟩ x hne hl h
    match t, hne, hl, h with
    | 0, hne, hl, h => exact h
    | 1, hne, hl, h => exact h
    | 2, hne, hl, h => exact h
    | 3, hne, hl, h => exact h
    | 4, hne, hl, h => exact h
    | 5, hne, hl, h => exact h
    | 6, hne, hl, h => exact h
    | 7, hne, hl, h => exact h
    | 8, hne, hl, h => exact h
    | 9, hne, hl, h => exact h
    | 10, hne, hl, h => exact h
    | 11, hne, hl, h => exact h
    | 12, hne, hl, h => exact h
    | 13, hne, hl, h => exact h
    | 14, hne, hl, h => exact h
    | 15, hne, hl, h => exact h
    | 16, hne, hl, h => exact h
    | 17, hne, hl, h => exact h
    | 18, hne, hl, h =>
      show ∃ sent9 : Int32, _ = Option.some (Sum.inr (4, [Value.int (upd1 s.c.lt i l' a').from_, Value.int (upd1 s.c.lt i l' a').to_, Value.int (upd1 s.c.lt i l' a').kind, Value.int (upd1 s.c.lt i l' a').key, _, Value.int (upd1 s.c.lt i l' a').tn, _])) ∧ ((upd1 s.c.lt i l' a').tn ≠ -1 → sent9 = (upd1 s.c.lt i l' a').g (upd1 s.c.lt i l' a').tn.toNatClampNeg); by_cases hq : a' = i
      · subst hq; rw [upd1_s]; obtain ⟨g, hg⟩ := hl'; subst hg; exact h
      · rw [upd1_n hq]; exact h
    | 19, hne, hl, h => have hx : ¬ a' = i := fun z => hne (by obtain ⟨_, h2, h3⟩ := hl; subst z; subst h2; subst h3; rfl); obtain ⟨f9, h1, h2⟩ := h; refine ⟨f9, h1, fun j hj => (h2 j hj).trans ?_⟩; show _ = (upd1 s.c.lt i l' a').f j; rw [upd1_n hx]
    | 20, hne, hl, h => exact h
    | 21, hne, hl, h => exact h
    | 22, hne, hl, h => exact h
    | 23, hne, hl, h => exact h
    | 24, hne, hl, h => exact h
    | 25, hne, hl, h => exact h
    | 26, hne, hl, h => exact h
    | n + 27, hne, hl, h => exact h
