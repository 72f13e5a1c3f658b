/-! THE PLAIN LAW, 5: simple writes on the side of the plain tables (printed by gen/mksetm.py) -/
set_option maxRecDepth 100000
theorem R.put_mtop {A ad : Ro → Nat} {s : Wo} {w : Hp} (h : R A ad s w) (v0 : Int32) (v1 : Nat) (v2 : Int32) (th : Int32) (sm : Int64) : R A ad (((s.s_m (((s.m.s_now v0).s_made v1).s_dlv v2)).s_th th).s_sm sm) (hu w (ad m_top) (.inr (3, [.int v0, .int (nI (v1 + 1)), .int th, .int v2, rf (ad m_addr), rf (ad m_rou), rf (ad m_outs), rf (ad m_co), rf (ad m_ld), rf (ad m_rt0), rf (ad (m_mx 0)), rf (ad (m_mx 1)), rf (ad (m_mx 2)), rf (ad (m_mx 3)), rf (ad (m_mx 4)), rf (ad (m_mx 5)), rf (ad (m_mx 6)), rf (ad (m_mx 7)), rf (ad (m_mx 8)), rf (ad (m_mx 9)), rf (ad m_pk0), rf (ad m_se0), rf (ad m_tk0), rf (ad m_le), .int (nI s.m.nl), rf (ad m_out), .long sm]))) := by
  refine h.wrM (r := (0, 0, 0, 0)) (((s.m.s_now v0).s_made v1).s_dlv v2) th sm s.o (l_m_top (s := s)) (fun z => by cases z) ?_ ?_ ?_
  · exact fun _ z => z
  · rfl
  · rintro ⟨t, a', b', k'⟩ x hne hl h
    match t, hne, hl, h with
    | 0, hne, hl, h => exact absurd (by obtain ⟨h1, h2, h3⟩ := hl; subst h1; subst h2; subst h3; rfl) hne
    | 1, hne, hl, h => exact h
    | 2, hne, hl, h => exact h
    | 3, hne, hl, h => exact h
    | 4, hne, hl, h => exact h
    | 5, hne, hl, h => exact h
    | 6, hne, hl, h => exact h
    | 7, hne, hl, h => exact h
    | 8, hne, hl, h => exact h
    | 9, hne, hl, h => exact h
    | 10, hne, hl, h => exact h
    | 11, hne, hl, h => exact h
    | 12, hne, hl, h => exact h
    | 13, hne, hl, h => exact h
    | 14, hne, hl, h => exact h
    | 15, hne, hl, h => exact h
    | 16, hne, hl, h => exact h
    | 17, hne, hl, h => exact h
    | 18, hne, hl, h => exact h
    | 19, hne, hl, h => exact h
    | 20, hne, hl, h => exact h
    | 21, hne, hl, h => exact h
    | 22, hne, hl, h => exact h
    | 23, hne, hl, h => exact h
    | 24, hne, hl, h => exact h
    | 25, hne, hl, h => exact h
    | 26, hne, hl, h => exact h
    | 27, hne, hl, h => exact h
    | n + 28, hne, hl, h => exact h
theorem R.put_maddr {A ad : Ro → Nat} {s : Wo} {w : Hp} (h : R A ad s w) (f : Nat → Int32) : R A ad (s.s_m (s.m.s_addr f)) (hu w (ad m_addr) (aE 0 3 f)) := by
  refine h.wrM (r := (1, 0, 0, 0)) (s.m.s_addr f) s.th s.sm s.o (l_m_addr (s := s)) (fun z => by cases z) ?_ ?_ ?_
  · exact fun _ z => z
  · rfl
  · rintro ⟨t, a', b', k'⟩ x hne hl h
    match t, hne, hl, h with
    | 0, hne, hl, h => exact h
    | 1, hne, hl, h => exact absurd (by obtain ⟨h1, h2, h3⟩ := hl; subst h1; subst h2; subst h3; rfl) hne
    | 2, hne, hl, h => exact h
    | 3, hne, hl, h => exact h
    | 4, hne, hl, h => exact h
    | 5, hne, hl, h => exact h
    | 6, hne, hl, h => exact h
    | 7, hne, hl, h => exact h
    | 8, hne, hl, h => exact h
    | 9, hne, hl, h => exact h
    | 10, hne, hl, h => exact h
    | 11, hne, hl, h => exact h
    | 12, hne, hl, h => exact h
    | 13, hne, hl, h => exact h
    | 14, hne, hl, h => exact h
    | 15, hne, hl, h => exact h
    | 16, hne, hl, h => exact h
    | 17, hne, hl, h => exact h
    | 18, hne, hl, h => exact h
    | 19, hne, hl, h => exact h
    | 20, hne, hl, h => exact h
    | 21, hne, hl, h => exact h
    | 22, hne, hl, h => exact h
    | 23, hne, hl, h => exact h
    | 24, hne, hl, h => exact h
    | 25, hne, hl, h => exact h
    | 26, hne, hl, h => exact h
    | 27, hne, hl, h => exact h
    | n + 28, hne, hl, h => exact h
theorem R.put_mld {A ad : Ro → Nat} {s : Wo} {w : Hp} (h : R A ad s w) (f : Nat → Int32) : R A ad (s.s_m (s.m.s_load f)) (hu w (ad m_ld) (aE 1 3 f)) := by
  refine h.wrM (r := (5, 0, 0, 0)) (s.m.s_load f) s.th s.sm s.o (l_m_ld (s := s)) (fun z => by cases z) ?_ ?_ ?_
  · exact fun _ z => z
  · rfl
  · rintro ⟨t, a', b', k'⟩ x hne hl h
    match t, hne, hl, h with
    | 0, hne, hl, h => exact h
    | 1, hne, hl, h => exact h
    | 2, hne, hl, h => exact h
    | 3, hne, hl, h => exact h
    | 4, hne, hl, h => exact h
    | 5, hne, hl, h => exact absurd (by obtain ⟨h1, h2, h3⟩ := hl; subst h1; subst h2; subst h3; rfl) hne
    | 6, hne, hl, h => exact h
    | 7, hne, hl, h => exact h
    | 8, hne, hl, h => exact h
    | 9, hne, hl, h => exact h
    | 10, hne, hl, h => exact h
    | 11, hne, hl, h => exact h
    | 12, hne, hl, h => exact h
    | 13, hne, hl, h => exact h
    | 14, hne, hl, h => exact h
    | 15, hne, hl, h => exact h
    | 16, hne, hl, h => exact h
    | 17, hne, hl, h => exact h
    | 18, hne, hl, h => exact h
    | 19, hne, hl, h => exact h
    | 20, hne, hl, h => exact h
    | 21, hne, hl, h => exact h
    | 22, hne, hl, h => exact h
    | 23, hne, hl, h => exact h
    | 24, hne, hl, h => exact h
    | 25, hne, hl, h => exact h
    | 26, hne, hl, h => exact h
    | 27, hne, hl, h => exact h
    | n + 28, hne, hl, h => exact h
theorem R.put_mco {A ad : Ro → Nat} {s : Wo} {w : Hp} (h : R A ad s w) (f : Nat → Int32) : R A ad (s.s_m (s.m.s_co f)) (hu w (ad m_co) (aE 0 11 f)) := by
  refine h.wrM (r := (4, 0, 0, 0)) (s.m.s_co f) s.th s.sm s.o (l_m_co (s := s)) (fun z => by cases z) ?_ ?_ ?_
  · exact fun _ z => z
  · rfl
  · rintro ⟨t, a', b', k'⟩ x hne hl h
    match t, hne, hl, h with
    | 0, hne, hl, h => exact h
    | 1, hne, hl, h => exact h
    | 2, hne, hl, h => exact h
    | 3, hne, hl, h => exact h
    | 4, hne, hl, h => exact absurd (by obtain ⟨h1, h2, h3⟩ := hl; subst h1; subst h2; subst h3; rfl) hne
    | 5, hne, hl, h => exact h
    | 6, hne, hl, h => exact h
    | 7, hne, hl, h => exact h
    | 8, hne, hl, h => exact h
    | 9, hne, hl, h => exact h
    | 10, hne, hl, h => exact h
    | 11, hne, hl, h => exact h
    | 12, hne, hl, h => exact h
    | 13, hne, hl, h => exact h
    | 14, hne, hl, h => exact h
    | 15, hne, hl, h => exact h
    | 16, hne, hl, h => exact h
    | 17, hne, hl, h => exact h
    | 18, hne, hl, h => exact h
    | 19, hne, hl, h => exact h
    | 20, hne, hl, h => exact h
    | 21, hne, hl, h => exact h
    | 22, hne, hl, h => exact h
    | 23, hne, hl, h => exact h
    | 24, hne, hl, h => exact h
    | 25, hne, hl, h => exact h
    | 26, hne, hl, h => exact h
    | 27, hne, hl, h => exact h
    | n + 28, hne, hl, h => exact h
theorem mxok_kn {c : Sg} {a b : Nat} {v : Int32} {j a' i : Nat} {x : Int32} (hx : j = 0 → ¬ (a' = a ∧ i = b)) (h : mxok c j a' i x) : mxok (c.s_kn (upd2 c.kn a b v)) j a' i x := by
  match j, hx, h with
  | 0, hx, h => exact Eq.trans h (upd2_n (hx rfl)).symm
  | 1, hx, h => exact h
  | 2, hx, h => exact h
  | 3, hx, h => exact h
  | 4, hx, h => exact h
  | 5, hx, h => exact h
  | 6, hx, h => exact h
  | 7, hx, h => exact h
  | 8, hx, h => exact h
  | n + 9, hx, h => exact h
theorem R.put_mkn {A ad : Ro → Nat} {s : Wo} {w : Hp} (h : R A ad s w) {a b : Nat} (ha : a < 3) (hb : b < 3) {f : Nat → Int32} (hf : ∀ i, i < 3 → mxok s.m 0 a i (f i)) (v : Int32) : R A ad (s.s_m (s.m.s_kn (upd2 s.m.kn a b v))) (hu w (ad (m_mxr 0 a)) (aE 0 3 (upd f b v))) := by
  refine h.wrM (r := (10, 0, a, 0)) (s.m.s_kn (upd2 s.m.kn a b v)) s.th s.sm s.o (l_m_mxr (s := s) (a := 0) (by decide) ha) (fun z => by cases z) ?_ ?_ ?_
  · exact fun _ z => z
  · refine ⟨_, rfl, fun i hi => ?_⟩
    by_cases hq : i = b
    · subst hq
      show (if i = i then v else f i) = upd2 s.m.kn a i v a i
      rw [if_pos rfl, upd2_s]
    · have : upd f b v i = f i := if_neg hq
      rw [this]
      exact mxok_kn (fun _ z => hq z.2) (hf i hi)
  · rintro ⟨t, a', b', k'⟩ x hne hl h
    match t, hne, hl, h with
    | 0, hne, hl, h => exact h
    | 1, hne, hl, h => exact h
    | 2, hne, hl, h => exact h
    | 3, hne, hl, h => exact h
    | 4, hne, hl, h => exact h
    | 5, hne, hl, h => exact h
    | 6, hne, hl, h => exact h
    | 7, hne, hl, h => exact h
    | 8, hne, hl, h => exact h
    | 9, hne, hl, h => exact h
    | 10, hne, hl, h =>
      obtain ⟨f9, h1, h2⟩ := h
      exact ⟨f9, h1, fun i hi => mxok_kn (fun z1 z2 => hne (by obtain ⟨_, _, h3⟩ := hl; subst h3; rw [show a' = 0 from z1, show b' = a from z2.1])) (h2 i hi)⟩
    | 11, hne, hl, h => exact h
    | 12, hne, hl, h => exact h
    | 13, hne, hl, h => exact h
    | 14, hne, hl, h => exact h
    | 15, hne, hl, h => exact h
    | 16, hne, hl, h => exact h
    | 17, hne, hl, h => exact h
    | 18, hne, hl, h => exact h
    | 19, hne, hl, h => exact h
    | 20, hne, hl, h => exact h
    | 21, hne, hl, h => exact h
    | 22, hne, hl, h => exact h
    | 23, hne, hl, h => exact h
    | 24, hne, hl, h => exact h
    | 25, hne, hl, h => exact h
    | 26, hne, hl, h => exact h
    | 27, hne, hl, h => exact h
    | n + 28, hne, hl, h => exact h
theorem mxok_stT {c : Sg} {a b : Nat} {v : Int32} {j a' i : Nat} {x : Int32} (hx : j = 1 → ¬ (a' = a ∧ i = b)) (h : mxok c j a' i x) : mxok (c.s_stT (upd2 c.stT a b v)) j a' i x := by
  match j, hx, h with
  | 0, hx, h => exact h
  | 1, hx, h => exact Eq.trans h (upd2_n (hx rfl)).symm
  | 2, hx, h => exact h
  | 3, hx, h => exact h
  | 4, hx, h => exact h
  | 5, hx, h => exact h
  | 6, hx, h => exact h
  | 7, hx, h => exact h
  | 8, hx, h => exact h
  | n + 9, hx, h => exact h
theorem R.put_mstT {A ad : Ro → Nat} {s : Wo} {w : Hp} (h : R A ad s w) {a b : Nat} (ha : a < 3) (hb : b < 3) {f : Nat → Int32} (hf : ∀ i, i < 3 → mxok s.m 1 a i (f i)) (v : Int32) : R A ad (s.s_m (s.m.s_stT (upd2 s.m.stT a b v))) (hu w (ad (m_mxr 1 a)) (aE 0 3 (upd f b v))) := by
  refine h.wrM (r := (10, 1, a, 0)) (s.m.s_stT (upd2 s.m.stT a b v)) s.th s.sm s.o (l_m_mxr (s := s) (a := 1) (by decide) ha) (fun z => by cases z) ?_ ?_ ?_
  · exact fun _ z => z
  · refine ⟨_, rfl, fun i hi => ?_⟩
    by_cases hq : i = b
    · subst hq
      show (if i = i then v else f i) = upd2 s.m.stT a i v a i
      rw [if_pos rfl, upd2_s]
    · have : upd f b v i = f i := if_neg hq
      rw [this]
      exact mxok_stT (fun _ z => hq z.2) (hf i hi)
  · rintro ⟨t, a', b', k'⟩ x hne hl h
    match t, hne, hl, h with
    | 0, hne, hl, h => exact h
    | 1, hne, hl, h => exact h
    | 2, hne, hl, h => exact h
    | 3, hne, hl, h => exact h
    | 4, hne, hl, h => exact h
    | 5, hne, hl, h => exact h
    | 6, hne, hl, h => exact h
    | 7, hne, hl, h => exact h
    | 8, hne, hl, h => exact h
    | 9, hne, hl, h => exact h
    | 10, hne, hl, h =>
      obtain ⟨f9, h1, h2⟩ := h
      exact ⟨f9, h1, fun i hi => mxok_stT (fun z1 z2 => hne (by obtain ⟨_, _, h3⟩ := hl; subst h3; rw [show a' = 1 from z1, show b' = a from z2.1])) (h2 i hi)⟩
    | 11, hne, hl, h => exact h
    | 12, hne, hl, h => exact h
    | 13, hne, hl, h => exact h
    | 14, hne, hl, h => exact h
    | 15, hne, hl, h => exact h
    | 16, hne, hl, h => exact h
    | 17, hne, hl, h => exact h
    | 18, hne, hl, h => exact h
    | 19, hne, hl, h => exact h
    | 20, hne, hl, h => exact h
    | 21, hne, hl, h => exact h
    | 22, hne, hl, h => exact h
    | 23, hne, hl, h => exact h
    | 24, hne, hl, h => exact h
    | 25, hne, hl, h => exact h
    | 26, hne, hl, h => exact h
    | 27, hne, hl, h => exact h
    | n + 28, hne, hl, h => exact h
theorem mxok_stS {c : Sg} {a b : Nat} {v : Int32} {j a' i : Nat} {x : Int32} (hx : j = 2 → ¬ (a' = a ∧ i = b)) (h : mxok c j a' i x) : mxok (c.s_stS (upd2 c.stS a b v)) j a' i x := by
  match j, hx, h with
  | 0, hx, h => exact h
  | 1, hx, h => exact h
  | 2, hx, h => exact Eq.trans h (upd2_n (hx rfl)).symm
  | 3, hx, h => exact h
  | 4, hx, h => exact h
  | 5, hx, h => exact h
  | 6, hx, h => exact h
  | 7, hx, h => exact h
  | 8, hx, h => exact h
  | n + 9, hx, h => exact h
theorem R.put_mstS {A ad : Ro → Nat} {s : Wo} {w : Hp} (h : R A ad s w) {a b : Nat} (ha : a < 3) (hb : b < 3) {f : Nat → Int32} (hf : ∀ i, i < 3 → mxok s.m 2 a i (f i)) (v : Int32) : R A ad (s.s_m (s.m.s_stS (upd2 s.m.stS a b v))) (hu w (ad (m_mxr 2 a)) (aE 0 3 (upd f b v))) := by
  refine h.wrM (r := (10, 2, a, 0)) (s.m.s_stS (upd2 s.m.stS a b v)) s.th s.sm s.o (l_m_mxr (s := s) (a := 2) (by decide) ha) (fun z => by cases z) ?_ ?_ ?_
  · exact fun _ z => z
  · refine ⟨_, rfl, fun i hi => ?_⟩
    by_cases hq : i = b
    · subst hq
      show (if i = i then v else f i) = upd2 s.m.stS a i v a i
      rw [if_pos rfl, upd2_s]
    · have : upd f b v i = f i := if_neg hq
      rw [this]
      exact mxok_stS (fun _ z => hq z.2) (hf i hi)
  · rintro ⟨t, a', b', k'⟩ x hne hl h
    match t, hne, hl, h with
    | 0, hne, hl, h => exact h
    | 1, hne, hl, h => exact h
    | 2, hne, hl, h => exact h
    | 3, hne, hl, h => exact h
    | 4, hne, hl, h => exact h
    | 5, hne, hl, h => exact h
    | 6, hne, hl, h => exact h
    | 7, hne, hl, h => exact h
    | 8, hne, hl, h => exact h
    | 9, hne, hl, h => exact h
    | 10, hne, hl, h =>
      obtain ⟨f9, h1, h2⟩ := h
      exact ⟨f9, h1, fun i hi => mxok_stS (fun z1 z2 => hne (by obtain ⟨_, _, h3⟩ := hl; subst h3; rw [show a' = 2 from z1, show b' = a from z2.1])) (h2 i hi)⟩
    | 11, hne, hl, h => exact h
    | 12, hne, hl, h => exact h
    | 13, hne, hl, h => exact h
    | 14, hne, hl, h => exact h
    | 15, hne, hl, h => exact h
    | 16, hne, hl, h => exact h
    | 17, hne, hl, h => exact h
    | 18, hne, hl, h => exact h
    | 19, hne, hl, h => exact h
    | 20, hne, hl, h => exact h
    | 21, hne, hl, h => exact h
    | 22, hne, hl, h => exact h
    | 23, hne, hl, h => exact h
    | 24, hne, hl, h => exact h
    | 25, hne, hl, h => exact h
    | 26, hne, hl, h => exact h
    | 27, hne, hl, h => exact h
    | n + 28, hne, hl, h => exact h
theorem mxok_ck {c : Sg} {a b : Nat} {v : Int32} {j a' i : Nat} {x : Int32} (hx : j = 7 → ¬ (a' = a ∧ i = b)) (h : mxok c j a' i x) : mxok (c.s_ck (upd2 c.ck a b v)) j a' i x := by
  match j, hx, h with
  | 0, hx, h => exact h
  | 1, hx, h => exact h
  | 2, hx, h => exact h
  | 3, hx, h => exact h
  | 4, hx, h => exact h
  | 5, hx, h => exact h
  | 6, hx, h => exact h
  | 7, hx, h => exact Eq.trans h (upd2_n (hx rfl)).symm
  | 8, hx, h => exact h
  | n + 9, hx, h => exact h
theorem R.put_mck {A ad : Ro → Nat} {s : Wo} {w : Hp} (h : R A ad s w) {a b : Nat} (ha : a < 3) (hb : b < 3) {f : Nat → Int32} (hf : ∀ i, i < 3 → mxok s.m 7 a i (f i)) (v : Int32) : R A ad (s.s_m (s.m.s_ck (upd2 s.m.ck a b v))) (hu w (ad (m_mxr 7 a)) (aE 0 3 (upd f b v))) := by
  refine h.wrM (r := (10, 7, a, 0)) (s.m.s_ck (upd2 s.m.ck a b v)) s.th s.sm s.o (l_m_mxr (s := s) (a := 7) (by decide) ha) (fun z => by cases z) ?_ ?_ ?_
  · exact fun _ z => z
  · refine ⟨_, rfl, fun i hi => ?_⟩
    by_cases hq : i = b
    · subst hq
      show (if i = i then v else f i) = upd2 s.m.ck a i v a i
      rw [if_pos rfl, upd2_s]
    · have : upd f b v i = f i := if_neg hq
      rw [this]
      exact mxok_ck (fun _ z => hq z.2) (hf i hi)
  · rintro ⟨t, a', b', k'⟩ x hne hl h
    match t, hne, hl, h with
    | 0, hne, hl, h => exact h
    | 1, hne, hl, h => exact h
    | 2, hne, hl, h => exact h
    | 3, hne, hl, h => exact h
    | 4, hne, hl, h => exact h
    | 5, hne, hl, h => exact h
    | 6, hne, hl, h => exact h
    | 7, hne, hl, h => exact h
    | 8, hne, hl, h => exact h
    | 9, hne, hl, h => exact h
    | 10, hne, hl, h =>
      obtain ⟨f9, h1, h2⟩ := h
      exact ⟨f9, h1, fun i hi => mxok_ck (fun z1 z2 => hne (by obtain ⟨_, _, h3⟩ := hl; subst h3; rw [show a' = 7 from z1, show b' = a from z2.1])) (h2 i hi)⟩
    | 11, hne, hl, h => exact h
    | 12, hne, hl, h => exact h
    | 13, hne, hl, h => exact h
    | 14, hne, hl, h => exact h
    | 15, hne, hl, h => exact h
    | 16, hne, hl, h => exact h
    | 17, hne, hl, h => exact h
    | 18, hne, hl, h => exact h
    | 19, hne, hl, h => exact h
    | 20, hne, hl, h => exact h
    | 21, hne, hl, h => exact h
    | 22, hne, hl, h => exact h
    | 23, hne, hl, h => exact h
    | 24, hne, hl, h => exact h
    | 25, hne, hl, h => exact h
    | 26, hne, hl, h => exact h
    | 27, hne, hl, h => exact h
    | n + 28, hne, hl, h => exact h
theorem mxok_ckAt {c : Sg} {a b : Nat} {v : Int32} {j a' i : Nat} {x : Int32} (hx : j = 8 → ¬ (a' = a ∧ i = b)) (h : mxok c j a' i x) : mxok (c.s_ckAt (upd2 c.ckAt a b v)) j a' i x := by
  match j, hx, h with
  | 0, hx, h => exact h
  | 1, hx, h => exact h
  | 2, hx, h => exact h
  | 3, hx, h => exact h
  | 4, hx, h => exact h
  | 5, hx, h => exact h
  | 6, hx, h => exact h
  | 7, hx, h => exact h
  | 8, hx, h => exact Eq.trans h (upd2_n (hx rfl)).symm
  | n + 9, hx, h => exact h
theorem R.put_mckAt {A ad : Ro → Nat} {s : Wo} {w : Hp} (h : R A ad s w) {a b : Nat} (ha : a < 3) (hb : b < 3) {f : Nat → Int32} (hf : ∀ i, i < 3 → mxok s.m 8 a i (f i)) (v : Int32) : R A ad (s.s_m (s.m.s_ckAt (upd2 s.m.ckAt a b v))) (hu w (ad (m_mxr 8 a)) (aE 0 3 (upd f b v))) := by
  refine h.wrM (r := (10, 8, a, 0)) (s.m.s_ckAt (upd2 s.m.ckAt a b v)) s.th s.sm s.o (l_m_mxr (s := s) (a := 8) (by decide) ha) (fun z => by cases z) ?_ ?_ ?_
  · exact fun _ z => z
  · refine ⟨_, rfl, fun i hi => ?_⟩
    by_cases hq : i = b
    · subst hq
      show (if i = i then v else f i) = upd2 s.m.ckAt a i v a i
      rw [if_pos rfl, upd2_s]
    · have : upd f b v i = f i := if_neg hq
      rw [this]
      exact mxok_ckAt (fun _ z => hq z.2) (hf i hi)
  · rintro ⟨t, a', b', k'⟩ x hne hl h
    match t, hne, hl, h with
    | 0, hne, hl, h => exact h
    | 1, hne, hl, h => exact h
    | 2, hne, hl, h => exact h
    | 3, hne, hl, h => exact h
    | 4, hne, hl, h => exact h
    | 5, hne, hl, h => exact h
    | 6, hne, hl, h => exact h
    | 7, hne, hl, h => exact h
    | 8, hne, hl, h => exact h
    | 9, hne, hl, h => exact h
    | 10, hne, hl, h =>
      obtain ⟨f9, h1, h2⟩ := h
      exact ⟨f9, h1, fun i hi => mxok_ckAt (fun z1 z2 => hne (by obtain ⟨_, _, h3⟩ := hl; subst h3; rw [show a' = 8 from z1, show b' = a from z2.1])) (h2 i hi)⟩
    | 11, hne, hl, h => exact h
    | 12, hne, hl, h => exact h
    | 13, hne, hl, h => exact h
    | 14, hne, hl, h => exact h
    | 15, hne, hl, h => exact h
    | 16, hne, hl, h => exact h
    | 17, hne, hl, h => exact h
    | 18, hne, hl, h => exact h
    | 19, hne, hl, h => exact h
    | 20, hne, hl, h => exact h
    | 21, hne, hl, h => exact h
    | 22, hne, hl, h => exact h
    | 23, hne, hl, h => exact h
    | 24, hne, hl, h => exact h
    | 25, hne, hl, h => exact h
    | 26, hne, hl, h => exact h
    | 27, hne, hl, h => exact h
    | n + 28, hne, hl, h => exact h
theorem mxok_sec {c : Sg} {a b : Nat} {v : Int32} {z : Fl} (hz : c.fl a b = some z) {j a' i : Nat} {x : Int32} (hx : j = 4 → ¬ (a' = a ∧ i = b)) (h : mxok c j a' i x) : mxok (c.s_fl (upd2 c.fl a b (some (z.s_sec v)))) j a' i x := by
  match j, hx, h with
  | 0, hx, h => exact h
  | 1, hx, h => exact h
  | 2, hx, h => exact h
  | 3, hx, h =>
    show x = (match upd2 c.fl a b (some (z.s_sec v)) a' i with | none => -1 | some f => f.idx)
    by_cases hq : a' = a ∧ i = b
    · obtain ⟨rfl, rfl⟩ := hq
      rw [upd2_s]
      have h9 : x = (match c.fl a' i with | none => -1 | some f => f.idx) := h
      rw [hz] at h9
      exact h9
    · rw [upd2_n hq]; exact h
  | 4, hx, h => exact fun f hf => h f ((upd2_n (hx rfl)).symm.trans hf)
  | 5, hx, h =>
    intro f hf
    by_cases hq : a' = a ∧ i = b
    · obtain ⟨rfl, rfl⟩ := hq
      have h9 : f = z.s_sec v := Option.some.inj (hf.symm.trans upd2_s)
      rw [h9]
      exact h z hz
    · exact h f ((upd2_n hq).symm.trans hf)
  | 6, hx, h =>
    intro f hf
    by_cases hq : a' = a ∧ i = b
    · obtain ⟨rfl, rfl⟩ := hq
      have h9 : f = z.s_sec v := Option.some.inj (hf.symm.trans upd2_s)
      rw [h9]
      exact h z hz
    · exact h f ((upd2_n hq).symm.trans hf)
  | 7, hx, h => exact h
  | 8, hx, h => exact h
  | n + 9, hx, h => exact h
theorem R.put_mfl_sec {A ad : Ro → Nat} {s : Wo} {w : Hp} (h : R A ad s w) {a b : Nat} (ha : a < 3) (hb : b < 3) {z : Fl} (hz : s.m.fl a b = Option.some z) {f : Nat → Int32} (hf : ∀ i, i < 3 → mxok s.m 4 a i (f i)) (v : Int32) : R A ad (s.s_m (s.m.s_fl (upd2 s.m.fl a b (Option.some (z.s_sec v))))) (hu w (ad (m_mxr 4 a)) (aE 0 3 (upd f b v))) := by
  refine h.wrM (r := (10, 4, a, 0)) (s.m.s_fl (upd2 s.m.fl a b (Option.some (z.s_sec v)))) s.th s.sm s.o (l_m_mxr (s := s) (a := 4) (by decide) ha) (fun z => by cases z) ?_ ?_ ?_
  · exact fun _ z => z
  · refine ⟨_, rfl, fun i hi => ?_⟩
    by_cases hq : i = b
    · subst hq
      intro z9 hz9
      have h9 : z9 = z.s_sec v := Option.some.inj (hz9.symm.trans upd2_s)
      rw [h9]
      exact if_pos rfl
    · have : upd f b v i = f i := if_neg hq
      rw [this]
      exact mxok_sec hz (fun _ z => hq z.2) (hf i hi)
  · rintro ⟨t, a', b', k'⟩ x hne hl h
    match t, hne, hl, h with
    | 0, hne, hl, h => exact h
    | 1, hne, hl, h => exact h
    | 2, hne, hl, h => exact h
    | 3, hne, hl, h => exact h
    | 4, hne, hl, h => exact h
    | 5, hne, hl, h => exact h
    | 6, hne, hl, h => exact h
    | 7, hne, hl, h => exact h
    | 8, hne, hl, h => exact h
    | 9, hne, hl, h => exact h
    | 10, hne, hl, h =>
      obtain ⟨f9, h1, h2⟩ := h
      exact ⟨f9, h1, fun i hi => mxok_sec hz (fun z1 z2 => hne (by obtain ⟨_, _, h3⟩ := hl; subst h3; rw [show a' = 4 from z1, show b' = a from z2.1])) (h2 i hi)⟩
    | 11, hne, hl, h => exact h
    | 12, hne, hl, h => exact h
    | 13, hne, hl, h => exact h
    | 14, hne, hl, h => exact h
    | 15, hne, hl, h => exact h
    | 16, hne, hl, h => exact h
    | 17, hne, hl, h => exact h
    | 18, hne, hl, h => exact h
    | 19, hne, hl, h => exact h
    | 20, hne, hl, h => exact h
    | 21, hne, hl, h => exact h
    | 22, hne, hl, h => exact h
    | 23, hne, hl, h => exact h
    | 24, hne, hl, h => exact h
    | 25, hne, hl, h => exact h
    | 26, hne, hl, h => exact h
    | 27, hne, hl, h => exact h
    | n + 28, hne, hl, h => exact h
theorem mxok_tag {c : Sg} {a b : Nat} {v : Int32} {z : Fl} (hz : c.fl a b = some z) {j a' i : Nat} {x : Int32} (hx : j = 5 → ¬ (a' = a ∧ i = b)) (h : mxok c j a' i x) : mxok (c.s_fl (upd2 c.fl a b (some (z.s_tag v)))) j a' i x := by
  match j, hx, h with
  | 0, hx, h => exact h
  | 1, hx, h => exact h
  | 2, hx, h => exact h
  | 3, hx, h =>
    show x = (match upd2 c.fl a b (some (z.s_tag v)) a' i with | none => -1 | some f => f.idx)
    by_cases hq : a' = a ∧ i = b
    · obtain ⟨rfl, rfl⟩ := hq
      rw [upd2_s]
      have h9 : x = (match c.fl a' i with | none => -1 | some f => f.idx) := h
      rw [hz] at h9
      exact h9
    · rw [upd2_n hq]; exact h
  | 4, hx, h =>
    intro f hf
    by_cases hq : a' = a ∧ i = b
    · obtain ⟨rfl, rfl⟩ := hq
      have h9 : f = z.s_tag v := Option.some.inj (hf.symm.trans upd2_s)
      rw [h9]
      exact h z hz
    · exact h f ((upd2_n hq).symm.trans hf)
  | 5, hx, h => exact fun f hf => h f ((upd2_n (hx rfl)).symm.trans hf)
  | 6, hx, h =>
    intro f hf
    by_cases hq : a' = a ∧ i = b
    · obtain ⟨rfl, rfl⟩ := hq
      have h9 : f = z.s_tag v := Option.some.inj (hf.symm.trans upd2_s)
      rw [h9]
      exact h z hz
    · exact h f ((upd2_n hq).symm.trans hf)
  | 7, hx, h => exact h
  | 8, hx, h => exact h
  | n + 9, hx, h => exact h
theorem R.put_mfl_tag {A ad : Ro → Nat} {s : Wo} {w : Hp} (h : R A ad s w) {a b : Nat} (ha : a < 3) (hb : b < 3) {z : Fl} (hz : s.m.fl a b = Option.some z) {f : Nat → Int32} (hf : ∀ i, i < 3 → mxok s.m 5 a i (f i)) (v : Int32) : R A ad (s.s_m (s.m.s_fl (upd2 s.m.fl a b (Option.some (z.s_tag v))))) (hu w (ad (m_mxr 5 a)) (aE 0 3 (upd f b v))) := by
  refine h.wrM (r := (10, 5, a, 0)) (s.m.s_fl (upd2 s.m.fl a b (Option.some (z.s_tag v)))) s.th s.sm s.o (l_m_mxr (s := s) (a := 5) (by decide) ha) (fun z => by cases z) ?_ ?_ ?_
  · exact fun _ z => z
  · refine ⟨_, rfl, fun i hi => ?_⟩
    by_cases hq : i = b
    · subst hq
      intro z9 hz9
      have h9 : z9 = z.s_tag v := Option.some.inj (hz9.symm.trans upd2_s)
      rw [h9]
      exact if_pos rfl
    · have : upd f b v i = f i := if_neg hq
      rw [this]
      exact mxok_tag hz (fun _ z => hq z.2) (hf i hi)
  · rintro ⟨t, a', b', k'⟩ x hne hl h
    match t, hne, hl, h with
    | 0, hne, hl, h => exact h
    | 1, hne, hl, h => exact h
    | 2, hne, hl, h => exact h
    | 3, hne, hl, h => exact h
    | 4, hne, hl, h => exact h
    | 5, hne, hl, h => exact h
    | 6, hne, hl, h => exact h
    | 7, hne, hl, h => exact h
    | 8, hne, hl, h => exact h
    | 9, hne, hl, h => exact h
    | 10, hne, hl, h =>
      obtain ⟨f9, h1, h2⟩ := h
      exact ⟨f9, h1, fun i hi => mxok_tag hz (fun z1 z2 => hne (by obtain ⟨_, _, h3⟩ := hl; subst h3; rw [show a' = 5 from z1, show b' = a from z2.1])) (h2 i hi)⟩
    | 11, hne, hl, h => exact h
    | 12, hne, hl, h => exact h
    | 13, hne, hl, h => exact h
    | 14, hne, hl, h => exact h
    | 15, hne, hl, h => exact h
    | 16, hne, hl, h => exact h
    | 17, hne, hl, h => exact h
    | 18, hne, hl, h => exact h
    | 19, hne, hl, h => exact h
    | 20, hne, hl, h => exact h
    | 21, hne, hl, h => exact h
    | 22, hne, hl, h => exact h
    | 23, hne, hl, h => exact h
    | 24, hne, hl, h => exact h
    | 25, hne, hl, h => exact h
    | 26, hne, hl, h => exact h
    | 27, hne, hl, h => exact h
    | n + 28, hne, hl, h => exact h
theorem mxok_at_ {c : Sg} {a b : Nat} {v : Int32} {z : Fl} (hz : c.fl a b = some z) {j a' i : Nat} {x : Int32} (hx : j = 6 → ¬ (a' = a ∧ i = b)) (h : mxok c j a' i x) : mxok (c.s_fl (upd2 c.fl a b (some (z.s_at_ v)))) j a' i x := by
  match j, hx, h with
  | 0, hx, h => exact h
  | 1, hx, h => exact h
  | 2, hx, h => exact h
  | 3, hx, h =>
    show x = (match upd2 c.fl a b (some (z.s_at_ v)) a' i with | none => -1 | some f => f.idx)
    by_cases hq : a' = a ∧ i = b
    · obtain ⟨rfl, rfl⟩ := hq
      rw [upd2_s]
      have h9 : x = (match c.fl a' i with | none => -1 | some f => f.idx) := h
      rw [hz] at h9
      exact h9
    · rw [upd2_n hq]; exact h
  | 4, hx, h =>
    intro f hf
    by_cases hq : a' = a ∧ i = b
    · obtain ⟨rfl, rfl⟩ := hq
      have h9 : f = z.s_at_ v := Option.some.inj (hf.symm.trans upd2_s)
      rw [h9]
      exact h z hz
    · exact h f ((upd2_n hq).symm.trans hf)
  | 5, hx, h =>
    intro f hf
    by_cases hq : a' = a ∧ i = b
    · obtain ⟨rfl, rfl⟩ := hq
      have h9 : f = z.s_at_ v := Option.some.inj (hf.symm.trans upd2_s)
      rw [h9]
      exact h z hz
    · exact h f ((upd2_n hq).symm.trans hf)
  | 6, hx, h => exact fun f hf => h f ((upd2_n (hx rfl)).symm.trans hf)
  | 7, hx, h => exact h
  | 8, hx, h => exact h
  | n + 9, hx, h => exact h
theorem R.put_mfl_at_ {A ad : Ro → Nat} {s : Wo} {w : Hp} (h : R A ad s w) {a b : Nat} (ha : a < 3) (hb : b < 3) {z : Fl} (hz : s.m.fl a b = Option.some z) {f : Nat → Int32} (hf : ∀ i, i < 3 → mxok s.m 6 a i (f i)) (v : Int32) : R A ad (s.s_m (s.m.s_fl (upd2 s.m.fl a b (Option.some (z.s_at_ v))))) (hu w (ad (m_mxr 6 a)) (aE 0 3 (upd f b v))) := by
  refine h.wrM (r := (10, 6, a, 0)) (s.m.s_fl (upd2 s.m.fl a b (Option.some (z.s_at_ v)))) s.th s.sm s.o (l_m_mxr (s := s) (a := 6) (by decide) ha) (fun z => by cases z) ?_ ?_ ?_
  · exact fun _ z => z
  · refine ⟨_, rfl, fun i hi => ?_⟩
    by_cases hq : i = b
    · subst hq
      intro z9 hz9
      have h9 : z9 = z.s_at_ v := Option.some.inj (hz9.symm.trans upd2_s)
      rw [h9]
      exact if_pos rfl
    · have : upd f b v i = f i := if_neg hq
      rw [this]
      exact mxok_at_ hz (fun _ z => hq z.2) (hf i hi)
  · rintro ⟨t, a', b', k'⟩ x hne hl h
    match t, hne, hl, h with
    | 0, hne, hl, h => exact h
    | 1, hne, hl, h => exact h
    | 2, hne, hl, h => exact h
    | 3, hne, hl, h => exact h
    | 4, hne, hl, h => exact h
    | 5, hne, hl, h => exact h
    | 6, hne, hl, h => exact h
    | 7, hne, hl, h => exact h
    | 8, hne, hl, h => exact h
    | 9, hne, hl, h => exact h
    | 10, hne, hl, h =>
      obtain ⟨f9, h1, h2⟩ := h
      exact ⟨f9, h1, fun i hi => mxok_at_ hz (fun z1 z2 => hne (by obtain ⟨_, _, h3⟩ := hl; subst h3; rw [show a' = 6 from z1, show b' = a from z2.1])) (h2 i hi)⟩
    | 11, hne, hl, h => exact h
    | 12, hne, hl, h => exact h
    | 13, hne, hl, h => exact h
    | 14, hne, hl, h => exact h
    | 15, hne, hl, h => exact h
    | 16, hne, hl, h => exact h
    | 17, hne, hl, h => exact h
    | 18, hne, hl, h => exact h
    | 19, hne, hl, h => exact h
    | 20, hne, hl, h => exact h
    | 21, hne, hl, h => exact h
    | 22, hne, hl, h => exact h
    | 23, hne, hl, h => exact h
    | 24, hne, hl, h => exact h
    | 25, hne, hl, h => exact h
    | 26, hne, hl, h => exact h
    | 27, hne, hl, h => exact h
    | n + 28, hne, hl, h => exact h
theorem R.put_le1 {A ad : Ro → Nat} {s : Wo} {w : Hp} (h : R A ad s w) {i : Nat} (hi : i < s.m.nl) (l' : Let) (f : Nat → Int32) (hf : okLet l' f) : R A ad (s.s_m (s.m.s_lt (upd1 s.m.lt i l'))) (hu w (ad (m_le1 i)) (aE 0 16 f)) := by
  refine h.wrM (r := (24, i, 0, 0)) (s.m.s_lt (upd1 s.m.lt i l')) s.th s.sm s.o (l_m_le1 (s := s) hi) (fun z => by cases z) ?_ ?_ ?_
  · exact fun _ z => z
  · refine ⟨_, rfl, ?_⟩
    show okLet (upd1 s.m.lt i l' i) f
    rw [upd1_s]; exact hf
  · rintro ⟨t, a', b', k'⟩ x hne hl h
    match t, hne, hl, h with
    | 0, hne, hl, h => exact h
    | 1, hne, hl, h => exact h
    | 2, hne, hl, h => exact h
    | 3, hne, hl, h => exact h
    | 4, hne, hl, h => exact h
    | 5, hne, hl, h => exact h
    | 6, hne, hl, h => exact h
    | 7, hne, hl, h => exact h
    | 8, hne, hl, h => exact h
    | 9, hne, hl, h => exact h
    | 10, hne, hl, h => exact h
    | 11, hne, hl, h => exact h
    | 12, hne, hl, h => exact h
    | 13, hne, hl, h => exact h
    | 14, hne, hl, h => exact h
    | 15, hne, hl, h => exact h
    | 16, hne, hl, h => exact h
    | 17, hne, hl, h => exact h
    | 18, hne, hl, h => exact h
    | 19, hne, hl, h => exact h
    | 20, hne, hl, h => exact h
    | 21, hne, hl, h => exact h
    | 22, hne, hl, h => exact h
    | 23, hne, hl, h => exact h
    | 24, hne, hl, h =>
      have hx : ¬ a' = i := fun z => hne (by obtain ⟨_, h2, h3⟩ := hl; subst z; subst h2; subst h3; rfl)
      obtain ⟨f9, h1, h2⟩ := h
      refine ⟨f9, h1, ?_⟩
      show okLet (upd1 s.m.lt i l' a') f9
      rw [upd1_n hx]; exact h2
    | 25, hne, hl, h => exact h
    | 26, hne, hl, h => exact h
    | 27, hne, hl, h => exact h
    | n + 28, hne, hl, h => exact h
theorem R.put_se3 {A ad : Ro → Nat} {s : Wo} {w : Hp} (h : R A ad s w) {a b k : Nat} (ha : a < 3) (hb : b < 3) (hk : k < 3) {z : Ses} (hz : s.m.se a b k = Option.some z) (z' : Ses) (hs : z'.seen = z.seen) (f : Nat → Int32) (hf : okSes z' f) : R A ad (s.s_m (s.m.s_se (upd3 s.m.se a b k (Option.some z')))) (hu w (ad (m_se3 a b k)) (aE 0 9 f)) := by
  refine h.wrM (r := (18, a, b, k)) (s.m.s_se (upd3 s.m.se a b k (Option.some z'))) s.th s.sm s.o (l_m_se3 (s := s) ha hb hk) (fun z => by cases z) ?_ ?_ ?_
  · exact fun _ z => z
  · refine ⟨_, rfl, fun z9 => ?_, fun z9 h9 => ?_⟩
    · have h8 : (Option.some z' : Option Ses) = none := upd3_s.symm.trans z9
      cases h8
    · have h8 : z9 = z' := Option.some.inj (h9.symm.trans upd3_s)
      subst h8; exact hf
  · rintro ⟨t, a', b', k'⟩ x hne hl h
    match t, hne, hl, h with
    | 0, hne, hl, h => exact h
    | 1, hne, hl, h => exact h
    | 2, hne, hl, h => exact h
    | 3, hne, hl, h => exact h
    | 4, hne, hl, h => exact h
    | 5, hne, hl, h => exact h
    | 6, hne, hl, h => exact h
    | 7, hne, hl, h => exact h
    | 8, hne, hl, h => exact h
    | 9, hne, hl, h => exact h
    | 10, hne, hl, h => exact h
    | 11, hne, hl, h => exact h
    | 12, hne, hl, h => exact h
    | 13, hne, hl, h => exact h
    | 14, hne, hl, h => exact h
    | 15, hne, hl, h => exact h
    | 16, hne, hl, h => exact h
    | 17, hne, hl, h => exact h
    | 18, hne, hl, h =>
      have hx : ¬ (a' = a ∧ b' = b ∧ k' = k) := fun z => hne (by obtain ⟨z1, z2, z3⟩ := z; subst z1; subst z2; subst z3; rfl)
      obtain ⟨f9, h1, h2, h3⟩ := h
      exact ⟨f9, h1, fun z9 => h2 ((upd3_n hx).symm.trans z9), fun z9 h9 => h3 z9 ((upd3_n hx).symm.trans h9)⟩
    | 19, hne, hl, h => exact h
    | 20, hne, hl, h => exact h
    | 21, hne, hl, h => exact h
    | 22, hne, hl, h =>
      by_cases hx : a' = a ∧ b' = b ∧ k' = k
      · obtain ⟨rfl, rfl, rfl⟩ := hx
        obtain ⟨f9, h1, h2⟩ := h
        refine ⟨f9, h1, fun z9 h9 => ?_⟩
        have h8 : z9 = z' := Option.some.inj (h9.symm.trans upd3_s)
        subst h8; rw [hs]; exact h2 z hz
      · obtain ⟨f9, h1, h2⟩ := h
        exact ⟨f9, h1, fun z9 h9 => h2 z9 ((upd3_n hx).symm.trans h9)⟩
    | 23, hne, hl, h => exact h
    | 24, hne, hl, h => exact h
    | 25, hne, hl, h => exact h
    | 26, hne, hl, h => exact h
    | 27, hne, hl, h => exact h
    | n + 28, hne, hl, h => exact h
theorem R.put_tk3 {A ad : Ro → Nat} {s : Wo} {w : Hp} (h : R A ad s w) {a b k : Nat} (ha : a < 3) (hb : b < 3) (hk : k < 3) {z : Ses} (hz : s.m.se a b k = Option.some z) (z' : Ses) (hs : ∃ g, z' = z.s_seen g) : R A ad (s.s_m (s.m.s_se (upd3 s.m.se a b k (Option.some z')))) (hu w (ad (m_tk3 a b k)) (aE 1 40 z'.seen)) := by
  refine h.wrM (r := (22, a, b, k)) (s.m.s_se (upd3 s.m.se a b k (Option.some z'))) s.th s.sm s.o (l_m_tk3 (s := s) ha hb hk) (fun z => by cases z) ?_ ?_ ?_
  · exact fun _ z => z
  · refine ⟨_, rfl, fun z9 h9 => ?_⟩
    have h8 : z9 = z' := Option.some.inj (h9.symm.trans upd3_s)
    subst h8; rfl
  · rintro ⟨t, a', b', k'⟩ x hne hl h
    match t, hne, hl, h with
    | 0, hne, hl, h => exact h
    | 1, hne, hl, h => exact h
    | 2, hne, hl, h => exact h
    | 3, hne, hl, h => exact h
    | 4, hne, hl, h => exact h
    | 5, hne, hl, h => exact h
    | 6, hne, hl, h => exact h
    | 7, hne, hl, h => exact h
    | 8, hne, hl, h => exact h
    | 9, hne, hl, h => exact h
    | 10, hne, hl, h => exact h
    | 11, hne, hl, h => exact h
    | 12, hne, hl, h => exact h
    | 13, hne, hl, h => exact h
    | 14, hne, hl, h => exact h
    | 15, hne, hl, h => exact h
    | 16, hne, hl, h => exact h
    | 17, hne, hl, h => exact h
    | 18, hne, hl, h =>
      by_cases hx : a' = a ∧ b' = b ∧ k' = k
      · obtain ⟨rfl, rfl, rfl⟩ := hx
        obtain ⟨f9, h1, h2, h3⟩ := h
        refine ⟨f9, h1, fun z9 => ?_, fun z9 h9 => ?_⟩
        · have h8 : (Option.some z' : Option Ses) = none := upd3_s.symm.trans z9
          cases h8
        · have h8 : z9 = z' := Option.some.inj (h9.symm.trans upd3_s)
          subst h8; obtain ⟨g, hg⟩ := hs; subst hg; exact h3 z hz
      · obtain ⟨f9, h1, h2, h3⟩ := h
        exact ⟨f9, h1, fun z9 => h2 ((upd3_n hx).symm.trans z9), fun z9 h9 => h3 z9 ((upd3_n hx).symm.trans h9)⟩
    | 19, hne, hl, h => exact h
    | 20, hne, hl, h => exact h
    | 21, hne, hl, h => exact h
    | 22, hne, hl, h =>
      have hx : ¬ (a' = a ∧ b' = b ∧ k' = k) := fun z => hne (by obtain ⟨z1, z2, z3⟩ := z; subst z1; subst z2; subst z3; rfl)
      obtain ⟨f9, h1, h2⟩ := h
      exact ⟨f9, h1, fun z9 h9 => h2 z9 ((upd3_n hx).symm.trans h9)⟩
    | 23, hne, hl, h => exact h
    | 24, hne, hl, h => exact h
    | 25, hne, hl, h => exact h
    | 26, hne, hl, h => exact h
    | 27, hne, hl, h => exact h
    | n + 28, hne, hl, h => exact h
