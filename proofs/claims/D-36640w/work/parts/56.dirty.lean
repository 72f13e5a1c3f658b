/-! THE PLAIN LAW, 26: worlds with cells out of step (printed by gen/mkdj.py) -/
set_option maxRecDepth 100000
set_option maxHeartbeats 4000000
def DJ (D : List (Nat × hE)) (A ad : Ro → Nat) (c m : Sg) (ow : Nat → Bool) (th : Int32) (sm o : Int64) (w : Hp) (J : List (Nat × hE)) : Prop := ∃ ws : Hp, RJ A ad c m ow th sm o ws J ∧ (∀ q, (∀ d, d ∈ D → d.1 ≠ q) → w q = ws q) ∧ ∀ d, d ∈ D → w d.1 = some d.2 ∧ ∃ r, Lv (Wo.mk c m ow th sm o) r ∧ ad r = d.1
theorem RJ.dj {A ad : Ro → Nat} {c m : Sg} {ow : Nat → Bool} {th : Int32} {sm o : Int64} {w : Hp} {J : List (Nat × hE)} (h : RJ A ad c m ow th sm o w J) : DJ [] A ad c m ow th sm o w J := ⟨w, h, fun _ _ => rfl, fun d hd => by cases hd⟩
theorem DJ.rj {A ad : Ro → Nat} {c m : Sg} {ow : Nat → Bool} {th : Int32} {sm o : Int64} {w : Hp} {J : List (Nat × hE)} (h : DJ [] A ad c m ow th sm o w J) : RJ A ad c m ow th sm o w J := by
  obtain ⟨ws, h1, h2, -⟩ := h
  rw [show w = ws from funext fun q => h2 q (fun d hd => by cases hd)]
  exact h1
theorem DJ.dirty {D : List (Nat × hE)} {A ad : Ro → Nat} {c m : Sg} {ow : Nat → Bool} {th : Int32} {sm o : Int64} {w : Hp} {J : List (Nat × hE)} (h : DJ D A ad c m ow th sm o w J) {p : Nat} {e : hE} {r : Ro} (hr : Lv (Wo.mk c m ow th sm o) r) (hp : ad r = p) (hD : ∀ d, d ∈ D → d.1 ≠ p) : DJ ((p, e) :: D) A ad c m ow th sm o (hu w p e) J := by
  obtain ⟨ws, h1, h2, h3⟩ := h
  refine ⟨ws, h1, fun q hq => ?_, fun d hd => ?_⟩
  · rw [hu_n (Ne.symm (hq (p, e) List.mem_cons_self))]
    exact h2 q (fun d hd => hq d (List.mem_cons_of_mem _ hd))
  · rcases List.mem_cons.mp hd with z | z
    · subst z; exact ⟨hu_s, r, hr, hp⟩
    · exact ⟨by rw [hu_n (hD d z)]; exact (h3 d z).1, (h3 d z).2⟩
theorem DJ.again {p : Nat} {e0 : hE} {D : List (Nat × hE)} {A ad : Ro → Nat} {c m : Sg} {ow : Nat → Bool} {th : Int32} {sm o : Int64} {w : Hp} {J : List (Nat × hE)} (h : DJ ((p, e0) :: D) A ad c m ow th sm o w J) {e : hE} (hD : ∀ d, d ∈ D → d.1 ≠ p) : DJ ((p, e) :: D) A ad c m ow th sm o (hu w p e) J := by
  obtain ⟨ws, h1, h2, h3⟩ := h
  refine ⟨ws, h1, fun q hq => ?_, fun d hd => ?_⟩
  · rw [hu_n (Ne.symm (hq (p, e) List.mem_cons_self))]
    refine h2 q (fun d hd => ?_)
    rcases List.mem_cons.mp hd with z | z
    · subst z; exact hq (p, e) List.mem_cons_self
    · exact hq d (List.mem_cons_of_mem _ z)
  · rcases List.mem_cons.mp hd with z | z
    · subst z; exact ⟨hu_s, (h3 (p, e0) List.mem_cons_self).2⟩
    · exact ⟨by rw [hu_n (hD d z)]; exact (h3 d (List.mem_cons_of_mem _ z)).1, (h3 d (List.mem_cons_of_mem _ z)).2⟩
theorem DJ.swapD {p q : Nat × hE} {D : List (Nat × hE)} {A ad : Ro → Nat} {c m : Sg} {ow : Nat → Bool} {th : Int32} {sm o : Int64} {w : Hp} {J : List (Nat × hE)} (h : DJ (p :: q :: D) A ad c m ow th sm o w J) : DJ (q :: p :: D) A ad c m ow th sm o w J := by
  obtain ⟨ws, h1, h2, h3⟩ := h
  have hm : ∀ d, d ∈ p :: q :: D ↔ d ∈ q :: p :: D := fun d => by simp only [List.mem_cons]; constructor <;> (rintro (z | z | z) <;> simp [z])
  exact ⟨ws, h1, fun x hx => h2 x (fun d hd => hx d ((hm d).mp hd)), fun d hd => h3 d ((hm d).mpr hd)⟩
theorem RJ.swap {A ad : Ro → Nat} {c m : Sg} {ow : Nat → Bool} {th : Int32} {sm o : Int64} {w : Hp} {p q : Nat × hE} {J : List (Nat × hE)} (h : RJ A ad c m ow th sm o w (p :: q :: J)) : RJ A ad c m ow th sm o w (q :: p :: J) := by
  have h1 := List.pairwise_cons.mp h.2.2
  have h2 := List.pairwise_cons.mp h1.2
  refine ⟨h.1, fun x hx => h.2.1 x ?_, List.pairwise_cons.mpr ⟨fun x hx => ?_, List.pairwise_cons.mpr ⟨fun x hx => h1.1 x (List.mem_cons_of_mem _ hx), h2.2⟩⟩⟩
  · rcases List.mem_cons.mp hx with z | z
    · exact z ▸ List.mem_cons_of_mem _ List.mem_cons_self
    · rcases List.mem_cons.mp z with z | z
      · exact z ▸ List.mem_cons_self
      · exact List.mem_cons_of_mem _ (List.mem_cons_of_mem _ z)
  · rcases List.mem_cons.mp hx with z | z
    · exact z ▸ Ne.symm (h1.1 q List.mem_cons_self)
    · exact h2.1 x z
theorem DJ.swap {D : List (Nat × hE)} {A ad : Ro → Nat} {c m : Sg} {ow : Nat → Bool} {th : Int32} {sm o : Int64} {w : Hp} {J : List (Nat × hE)} {p q : Nat × hE} (h : DJ D A ad c m ow th sm o w (p :: q :: J)) : DJ D A ad c m ow th sm o w (q :: p :: J) := by
  obtain ⟨ws, h1, h2⟩ := h; exact ⟨ws, h1.swap, h2⟩
theorem DJ.tail {D : List (Nat × hE)} {A ad : Ro → Nat} {c m : Sg} {ow : Nat → Bool} {th : Int32} {sm o : Int64} {w : Hp} {J : List (Nat × hE)} {p : Nat × hE} (h : DJ D A ad c m ow th sm o w (p :: J)) : DJ D A ad c m ow th sm o w J := by
  obtain ⟨ws, h1, h2⟩ := h; exact ⟨ws, h1.tail, h2⟩
theorem DJ.nD {D : List (Nat × hE)} {A ad : Ro → Nat} {c m : Sg} {ow : Nat → Bool} {th : Int32} {sm o : Int64} {w : Hp} {J : List (Nat × hE)} {b : Nat} {e : hE} (h : DJ D A ad c m ow th sm o w ((b, e) :: J)) : ∀ d, d ∈ D → d.1 ≠ b := by
  obtain ⟨ws, h1, h2, h3⟩ := h
  intro d hd z
  obtain ⟨-, r, hr, hp⟩ := h3 d hd
  exact (h1.2.1 (b, e) List.mem_cons_self).2 r hr (hp.trans z)
theorem DJ.j0 {D : List (Nat × hE)} {A ad : Ro → Nat} {c m : Sg} {ow : Nat → Bool} {th : Int32} {sm o : Int64} {w : Hp} {J : List (Nat × hE)} {b : Nat} {e : hE} (h : DJ D A ad c m ow th sm o w ((b, e) :: J)) : w b = some e := by
  have hn := h.nD
  obtain ⟨ws, h1, h2, h3⟩ := h
  rw [h2 b hn]; exact h1.j0
theorem DJ.fresh {D : List (Nat × hE)} {A ad : Ro → Nat} {c m : Sg} {ow : Nat → Bool} {th : Int32} {sm o : Int64} {w : Hp} {J : List (Nat × hE)} (h : DJ D A ad c m ow th sm o w J) {b : Nat} {e : hE} (hb : w b = none) (he : e ≠ roE) : DJ D A ad c m ow th sm o (hu w b e) ((b, e) :: J) := by
  obtain ⟨ws, h1, h2, h3⟩ := h
  have hbD : ∀ d, d ∈ D → d.1 ≠ b := fun d hd z => by have := (h3 d hd).1; rw [z, hb] at this; cases this
  have hb' : ws b = none := by rw [← h2 b hbD]; exact hb
  refine ⟨hu ws b e, h1.new hb' he, fun q hq => ?_, fun d hd => ⟨by rw [hu_n (hbD d hd)]; exact (h3 d hd).1, (h3 d hd).2⟩⟩
  by_cases z : q = b
  · subst z; rw [hu_s, hu_s]
  · rw [hu_n z, hu_n z]; exact h2 q hq
theorem DJ.set {D : List (Nat × hE)} {A ad : Ro → Nat} {c m : Sg} {ow : Nat → Bool} {th : Int32} {sm o : Int64} {w : Hp} {J : List (Nat × hE)} {b : Nat} {e : hE} (h : DJ D A ad c m ow th sm o w ((b, e) :: J)) {e' : hE} (he : e' ≠ roE) : DJ D A ad c m ow th sm o (hu w b e') ((b, e') :: J) := by
  have hn := h.nD
  obtain ⟨ws, h1, h2, h3⟩ := h
  refine ⟨hu ws b e', h1.set he, fun q hq => ?_, fun d hd => ⟨by rw [hu_n (hn d hd)]; exact (h3 d hd).1, (h3 d hd).2⟩⟩
  by_cases z : q = b
  · subst z; rw [hu_s, hu_s]
  · rw [hu_n z, hu_n z]; exact h2 q hq
theorem DJ.liv {D : List (Nat × hE)} {A ad : Ro → Nat} {c m : Sg} {ow : Nat → Bool} {th : Int32} {sm o : Int64} {w : Hp} {J : List (Nat × hE)} (h : DJ D A ad c m ow th sm o w J) {r : Ro} (hr : Lv (Wo.mk c m ow th sm o) r) (hD : ∀ d, d ∈ D → d.1 ≠ ad r) : ∃ ws, RJ A ad c m ow th sm o ws J ∧ w (ad r) = ws (ad r) := by
  obtain ⟨ws, h1, h2, h3⟩ := h
  exact ⟨ws, h1, h2 _ hD⟩
theorem DJ.a {D : List (Nat × hE)} {A ad : Ro → Nat} {c m : Sg} {ow : Nat → Bool} {th : Int32} {sm o : Int64} {w : Hp} {J : List (Nat × hE)} (h : DJ D A ad c m ow th sm o w J) {r : Ro} (hr : stc r = true) : A r = ad r := by
  obtain ⟨ws, h1, -⟩ := h; exact h1.a hr
theorem DJ.inj {D : List (Nat × hE)} {A ad : Ro → Nat} {c m : Sg} {ow : Nat → Bool} {th : Int32} {sm o : Int64} {w : Hp} {J : List (Nat × hE)} (h : DJ D A ad c m ow th sm o w J) {r r' : Ro} (hr : Lv (Wo.mk c m ow th sm o) r) (hr' : Lv (Wo.mk c m ow th sm o) r') (e : ad r = ad r') : r = r' := by
  obtain ⟨ws, h1, -⟩ := h; exact h1.1.inj _ _ hr hr' e
theorem x_new {D : List (Nat × hE)} {A ad : Ro → Nat} {c m : Sg} {ow : Nat → Bool} {th : Int32} {sm o : Int64} {w : Hp} {J : List (Nat × hE)} (h : DJ D A ad c m ow th sm o w J) {K : Hp → Nat → Prop} (n : Nat) {x : Int32} {B : Nat} (hx : x = nI n) (hn : n ≤ B) (hB : B < 100) (k : ∀ w b, DJ D A ad c m ow th sm o w ((b, aE 0 n (fun _ => 0)) :: J) → K w b) : nI_ w x B K := by
  subst hx
  have e : (nI n).toNatClampNeg = n := nI_clamp (by omega)
  refine ⟨nI_pos (by omega), by rw [e]; exact hn, fun b hb => ?_⟩
  rw [e]
  exact k _ b (h.fresh hb (fun z => by cases z))
theorem x_newZ {D : List (Nat × hE)} {A ad : Ro → Nat} {c m : Sg} {ow : Nat → Bool} {th : Int32} {sm o : Int64} {w : Hp} {J : List (Nat × hE)} (h : DJ D A ad c m ow th sm o w J) {K : Hp → Nat → Prop} (n : Nat) {x : Int32} {B : Nat} (hx : x = nI n) (hn : n ≤ B) (hB : B < 100) (k : ∀ w b, DJ D A ad c m ow th sm o w ((b, aE 1 n (fun _ => 0)) :: J) → K w b) : nZ_ w x B K := by
  subst hx
  have e : (nI n).toNatClampNeg = n := nI_clamp (by omega)
  refine ⟨nI_pos (by omega), by rw [e]; exact hn, fun b hb => ?_⟩
  rw [e]
  exact k _ b (h.fresh hb (fun z => by cases z))
theorem x_nO {D : List (Nat × hE)} {A ad : Ro → Nat} {c m : Sg} {ow : Nat → Bool} {th : Int32} {sm o : Int64} {w : Hp} {J : List (Nat × hE)} (h : DJ D A ad c m ow th sm o w J) {K : Hp → Nat → Prop} {ci : Nat} {fs : List Value} (k : ∀ w b, DJ D A ad c m ow th sm o w ((b, .inr (ci, fs)) :: J) → K w b) : nO w ci fs K := fun b hb => k _ b (h.fresh hb (fun z => by cases z))
theorem x_set {D : List (Nat × hE)} {A ad : Ro → Nat} {c m : Sg} {ow : Nat → Bool} {th : Int32} {sm o : Int64} {w : Hp} {J : List (Nat × hE)} {b n : Nat} {f : Nat → Int32} (h : DJ D A ad c m ow th sm o w ((b, aE 0 n f) :: J)) {K : Hp → Prop} (j : Nat) {i x : Int32} (hi : i = nI j) (hj : j < n) (hn : n < 100) (k : ∀ w, DJ D A ad c m ow th sm o w ((b, aE 0 n (upd f j x)) :: J) → K w) : sI w b i x K := by
  subst hi
  exact sI_at h.j0 hj (k _ (h.set (fun z => by cases z))) (by omega)
theorem x_pV {D : List (Nat × hE)} {A ad : Ro → Nat} {c m : Sg} {ow : Nat → Bool} {th : Int32} {sm o : Int64} {w : Hp} {J : List (Nat × hE)} {b ci : Nat} {fs : List Value} (h : DJ D A ad c m ow th sm o w ((b, .inr (ci, fs)) :: J)) {K : Hp → Prop} {i : Nat} {v : Value} (fs' : List Value) (hi : i < fs.length) (hs : fs.set i v = fs') (k : ∀ w, DJ D A ad c m ow th sm o w ((b, .inr (ci, fs')) :: J) → K w) : pV w b ci i v K :=
  pV_to fs' h.j0 hi hs (k _ (h.set (fun z => by cases z)))
theorem x_now {D : List (Nat × hE)} {A ad : Ro → Nat} {c m : Sg} {ow : Nat → Bool} {th : Int32} {sm o : Int64} {w : Hp} {J : List (Nat × hE)} (h : DJ D A ad c m ow th sm o w J) (hD : ∀ d, d ∈ D → d.1 ≠ ad c_top) {K : Int32 → Prop} (k : K c.now) : gI w (A c_top) 0 0 K := by
  rw [h.a (r := c_top) rfl]
  obtain ⟨ws, h1, h2⟩ := h.liv (l_c_top (s := Wo.mk c m ow th sm o)) hD
  exact gI_of (h2.trans h1.1.gc_top) rfl k
theorem x_mnow {D : List (Nat × hE)} {A ad : Ro → Nat} {c m : Sg} {ow : Nat → Bool} {th : Int32} {sm o : Int64} {w : Hp} {J : List (Nat × hE)} (h : DJ D A ad c m ow th sm o w J) (hD : ∀ d, d ∈ D → d.1 ≠ ad m_top) {K : Int32 → Prop} (k : K m.now) : gI w (A m_top) 3 0 K := by
  rw [h.a (r := m_top) rfl]
  obtain ⟨ws, h1, h2⟩ := h.liv (l_m_top (s := Wo.mk c m ow th sm o)) hD
  exact gI_of (h2.trans h1.1.gm_top) rfl k
theorem x_jA0 {D : List (Nat × hE)} {A ad : Ro → Nat} {c m : Sg} {ow : Nat → Bool} {th : Int32} {sm o : Int64} {w : Hp} {J : List (Nat × hE)} {b n : Nat} {f : Nat → Int32} (h : DJ D A ad c m ow th sm o w ((b, aE 0 n f) :: J)) {i : Int32} (j : Nat) (hi : i = nI j) (hj : j < n) (hn : n < 100) {K : Int32 → Prop} (k : K (f j)) : aI w b i K := by subst hi; exact aI_at (DJ.j0 (J := J) h) hj k (by omega)
theorem x_jI0 {D : List (Nat × hE)} {A ad : Ro → Nat} {c m : Sg} {ow : Nat → Bool} {th : Int32} {sm o : Int64} {w : Hp} {J : List (Nat × hE)} {b ci i : Nat} {fs : List Value} (h : DJ D A ad c m ow th sm o w ((b, .inr (ci, fs)) :: J)) {v : Int32} {K : Int32 → Prop} (hv : fs[i]? = some (.int v)) (k : K v) : gI w b ci i K := gI_of (DJ.j0 (J := J) h) hv k
theorem x_jA1 {D : List (Nat × hE)} {A ad : Ro → Nat} {c m : Sg} {ow : Nat → Bool} {th : Int32} {sm o : Int64} {w : Hp} {J : List (Nat × hE)} {q1 : Nat × hE} {b n : Nat} {f : Nat → Int32} (h : DJ D A ad c m ow th sm o w (q1 :: (b, aE 0 n f) :: J)) {i : Int32} (j : Nat) (hi : i = nI j) (hj : j < n) (hn : n < 100) {K : Int32 → Prop} (k : K (f j)) : aI w b i K := by subst hi; exact aI_at (DJ.j0 (J := J) h.tail) hj k (by omega)
theorem x_jI1 {D : List (Nat × hE)} {A ad : Ro → Nat} {c m : Sg} {ow : Nat → Bool} {th : Int32} {sm o : Int64} {w : Hp} {J : List (Nat × hE)} {q1 : Nat × hE} {b ci i : Nat} {fs : List Value} (h : DJ D A ad c m ow th sm o w (q1 :: (b, .inr (ci, fs)) :: J)) {v : Int32} {K : Int32 → Prop} (hv : fs[i]? = some (.int v)) (k : K v) : gI w b ci i K := gI_of (DJ.j0 (J := J) h.tail) hv k
theorem x_jA2 {D : List (Nat × hE)} {A ad : Ro → Nat} {c m : Sg} {ow : Nat → Bool} {th : Int32} {sm o : Int64} {w : Hp} {J : List (Nat × hE)} {q1 q2 : Nat × hE} {b n : Nat} {f : Nat → Int32} (h : DJ D A ad c m ow th sm o w (q1 :: q2 :: (b, aE 0 n f) :: J)) {i : Int32} (j : Nat) (hi : i = nI j) (hj : j < n) (hn : n < 100) {K : Int32 → Prop} (k : K (f j)) : aI w b i K := by subst hi; exact aI_at (DJ.j0 (J := J) h.tail.tail) hj k (by omega)
theorem x_jI2 {D : List (Nat × hE)} {A ad : Ro → Nat} {c m : Sg} {ow : Nat → Bool} {th : Int32} {sm o : Int64} {w : Hp} {J : List (Nat × hE)} {q1 q2 : Nat × hE} {b ci i : Nat} {fs : List Value} (h : DJ D A ad c m ow th sm o w (q1 :: q2 :: (b, .inr (ci, fs)) :: J)) {v : Int32} {K : Int32 → Prop} (hv : fs[i]? = some (.int v)) (k : K v) : gI w b ci i K := gI_of (DJ.j0 (J := J) h.tail.tail) hv k
theorem x_jA3 {D : List (Nat × hE)} {A ad : Ro → Nat} {c m : Sg} {ow : Nat → Bool} {th : Int32} {sm o : Int64} {w : Hp} {J : List (Nat × hE)} {q1 q2 q3 : Nat × hE} {b n : Nat} {f : Nat → Int32} (h : DJ D A ad c m ow th sm o w (q1 :: q2 :: q3 :: (b, aE 0 n f) :: J)) {i : Int32} (j : Nat) (hi : i = nI j) (hj : j < n) (hn : n < 100) {K : Int32 → Prop} (k : K (f j)) : aI w b i K := by subst hi; exact aI_at (DJ.j0 (J := J) h.tail.tail.tail) hj k (by omega)
theorem x_jI3 {D : List (Nat × hE)} {A ad : Ro → Nat} {c m : Sg} {ow : Nat → Bool} {th : Int32} {sm o : Int64} {w : Hp} {J : List (Nat × hE)} {q1 q2 q3 : Nat × hE} {b ci i : Nat} {fs : List Value} (h : DJ D A ad c m ow th sm o w (q1 :: q2 :: q3 :: (b, .inr (ci, fs)) :: J)) {v : Int32} {K : Int32 → Prop} (hv : fs[i]? = some (.int v)) (k : K v) : gI w b ci i K := gI_of (DJ.j0 (J := J) h.tail.tail.tail) hv k
theorem x_jA4 {D : List (Nat × hE)} {A ad : Ro → Nat} {c m : Sg} {ow : Nat → Bool} {th : Int32} {sm o : Int64} {w : Hp} {J : List (Nat × hE)} {q1 q2 q3 q4 : Nat × hE} {b n : Nat} {f : Nat → Int32} (h : DJ D A ad c m ow th sm o w (q1 :: q2 :: q3 :: q4 :: (b, aE 0 n f) :: J)) {i : Int32} (j : Nat) (hi : i = nI j) (hj : j < n) (hn : n < 100) {K : Int32 → Prop} (k : K (f j)) : aI w b i K := by subst hi; exact aI_at (DJ.j0 (J := J) h.tail.tail.tail.tail) hj k (by omega)
theorem x_jI4 {D : List (Nat × hE)} {A ad : Ro → Nat} {c m : Sg} {ow : Nat → Bool} {th : Int32} {sm o : Int64} {w : Hp} {J : List (Nat × hE)} {q1 q2 q3 q4 : Nat × hE} {b ci i : Nat} {fs : List Value} (h : DJ D A ad c m ow th sm o w (q1 :: q2 :: q3 :: q4 :: (b, .inr (ci, fs)) :: J)) {v : Int32} {K : Int32 → Prop} (hv : fs[i]? = some (.int v)) (k : K v) : gI w b ci i K := gI_of (DJ.j0 (J := J) h.tail.tail.tail.tail) hv k
theorem x_mix3 {D : List (Nat × hE)} {A ad : Ro → Nat} {c m : Sg} {ow : Nat → Bool} {th : Int32} {sm o : Int64} {w : Hp} {J : List (Nat × hE)} {b : Nat} {x0 x1 x2 : Int32} (h : DJ D A ad c m ow th sm o w ((b, aE 0 3 (upd (upd (upd (fun _ => 0) 0 x0) 1 x1) 2 x2)) :: J)) (b0 : bd x0) (b1 : bd x1) (b2 : bd x2) {K : Hp → Int32 → Prop} (k : DJ D A ad c m ow th sm o w J → K w (mixI [x0, x1, x2])) : wp_X1_mix w b K := C_mix (f := (upd (upd (upd (fun _ => 0) 0 x0) 1 x1) 2 x2)) h.j0 (by decide) (by
    intro i hi
    match i, hi with
    | 0, _ => exact b0
    | 1, _ => exact b1
    | 2, _ => exact b2
    | n + 3, hi => exact absurd hi (by omega)) (k h.tail)
theorem x_mmix3 {D : List (Nat × hE)} {A ad : Ro → Nat} {c m : Sg} {ow : Nat → Bool} {th : Int32} {sm o : Int64} {w : Hp} {J : List (Nat × hE)} {b : Nat} {x0 x1 x2 : Int32} (h : DJ D A ad c m ow th sm o w ((b, aE 0 3 (upd (upd (upd (fun _ => 0) 0 x0) 1 x1) 2 x2)) :: J)) {K : Hp → Int32 → Prop} (k : DJ D A ad c m ow th sm o w J → K w (mixI [x0, x1, x2])) : wp_X4_mix w b K := M_mix (f := (upd (upd (upd (fun _ => 0) 0 x0) 1 x1) 2 x2)) h.j0 (by decide) (k h.tail)
theorem x_mix4 {D : List (Nat × hE)} {A ad : Ro → Nat} {c m : Sg} {ow : Nat → Bool} {th : Int32} {sm o : Int64} {w : Hp} {J : List (Nat × hE)} {b : Nat} {x0 x1 x2 x3 : Int32} (h : DJ D A ad c m ow th sm o w ((b, aE 0 4 (upd (upd (upd (upd (fun _ => 0) 0 x0) 1 x1) 2 x2) 3 x3)) :: J)) (b0 : bd x0) (b1 : bd x1) (b2 : bd x2) (b3 : bd x3) {K : Hp → Int32 → Prop} (k : DJ D A ad c m ow th sm o w J → K w (mixI [x0, x1, x2, x3])) : wp_X1_mix w b K := C_mix (f := (upd (upd (upd (upd (fun _ => 0) 0 x0) 1 x1) 2 x2) 3 x3)) h.j0 (by decide) (by
    intro i hi
    match i, hi with
    | 0, _ => exact b0
    | 1, _ => exact b1
    | 2, _ => exact b2
    | 3, _ => exact b3
    | n + 4, hi => exact absurd hi (by omega)) (k h.tail)
theorem x_mmix4 {D : List (Nat × hE)} {A ad : Ro → Nat} {c m : Sg} {ow : Nat → Bool} {th : Int32} {sm o : Int64} {w : Hp} {J : List (Nat × hE)} {b : Nat} {x0 x1 x2 x3 : Int32} (h : DJ D A ad c m ow th sm o w ((b, aE 0 4 (upd (upd (upd (upd (fun _ => 0) 0 x0) 1 x1) 2 x2) 3 x3)) :: J)) {K : Hp → Int32 → Prop} (k : DJ D A ad c m ow th sm o w J → K w (mixI [x0, x1, x2, x3])) : wp_X4_mix w b K := M_mix (f := (upd (upd (upd (upd (fun _ => 0) 0 x0) 1 x1) 2 x2) 3 x3)) h.j0 (by decide) (k h.tail)
theorem x_7init {D : List (Nat × hE)} {A ad : Ro → Nat} {c m : Sg} {ow : Nat → Bool} {th : Int32} {sm o : Int64} {w : Hp} {J : List (Nat × hE)} {g : Nat} (h : DJ D A ad c m ow th sm o w ((g, .inr (6, fsX7)) :: J)) {x1 x2 x3 x4 x5 x6 : Int32} (h6 : x6 = 0 ∨ x6 = 1) {K : Hp → Prop} (k : ∀ w b, DJ D A ad c m ow th sm o w ((g, .inr (6, [.int x1, .int x2, .int x3, .int x4, .int x5, .int x6, rf b, .int 0, .int (-1), .int 0])) :: (b, aE 1 40 (fun _ => 0)) :: J) → K w) : wp_X7_init w g x1 x2 x3 x4 x5 x6 K := by
  unfold wp_X7_init
  refine x_newZ h 40 rfl (by decide) (by decide) (fun w b h => ?_)
  have h := h.swap
  refine x_pV h [.int 0, .int 0, .int 0, .int 0, .int 0, .int 0, rf b, .int 0, .int 0, .int 0] (by decide) rfl (fun w h => ?_)
  refine x_pV h [.int 0, .int 0, .int 0, .int 0, .int 0, .int 0, rf b, .int 0, .int (-1), .int 0] (by show _ < 10; decide) rfl (fun w h => ?_)
  refine x_pV h [.int x1, .int 0, .int 0, .int 0, .int 0, .int 0, rf b, .int 0, .int (-1), .int 0] (by show _ < 10; decide) rfl (fun w h => ?_)
  refine x_pV h [.int x1, .int x2, .int 0, .int 0, .int 0, .int 0, rf b, .int 0, .int (-1), .int 0] (by show _ < 10; decide) rfl (fun w h => ?_)
  refine x_pV h [.int x1, .int x2, .int x3, .int 0, .int 0, .int 0, rf b, .int 0, .int (-1), .int 0] (by show _ < 10; decide) rfl (fun w h => ?_)
  refine x_pV h [.int x1, .int x2, .int x3, .int x4, .int 0, .int 0, rf b, .int 0, .int (-1), .int 0] (by show _ < 10; decide) rfl (fun w h => ?_)
  refine x_pV h [.int x1, .int x2, .int x3, .int x4, .int x5, .int 0, rf b, .int 0, .int (-1), .int 0] (by show _ < 10; decide) rfl (fun w h => ?_)
  refine ⟨h6, ?_⟩
  exact x_pV h [.int x1, .int x2, .int x3, .int x4, .int x5, .int x6, rf b, .int 0, .int (-1), .int 0] (by show _ < 10; decide) rfl (fun w h => k w b h)
def sesN (i o9 now s r b : Int32) : Ses := Ses.mk i o9 now s r b 0 (-1) 0 (fun _ => 0)
theorem y_sesnew {A ad : Ro → Nat} {c m : Sg} {ow : Nat → Bool} {th : Int32} {sm o : Int64} {w : Hp} {J : List (Nat × hE)} {g gN : Nat} {x1 x2 x3 x4 x5 x6 : Int32} (h : RJ A ad c m ow th sm o w ((g, .inr (6, [.int x1, .int x2, .int x3, .int x4, .int x5, .int x6, rf gN, .int 0, .int (-1), .int 0])) :: (gN, aE 1 40 (fun _ => 0)) :: J)) {a b : Nat} (ha : a < 3) (hb : b < 3) {K : Hp → Prop} (k : ∀ w, Q A (c.s_se (upd3 c.se a b 2 (some (sesN x1 x2 x3 x4 x5 x6)))) m th sm o w J → K w) : pV w (A (c_sd a b)) 2 3 (va_rf (some g)) K := by
  rw [h.a (r := c_sd a b) rfl]
  have hl := l_c_sd (s := Wo.mk c m ow th sm o) ha hb
  have hg := h.2.1 (g, _) List.mem_cons_self
  have hgN := h.2.1 (gN, _) (List.mem_cons_of_mem _ List.mem_cons_self)
  have hp := List.pairwise_cons.mp h.2.2
  have hp2 := List.pairwise_cons.mp hp.2
  have hgJ : ∀ p, p ∈ J → p.1 ≠ g := fun p hp9 z9 => hp.1 p (List.mem_cons_of_mem _ hp9) z9.symm
  have hgNJ : ∀ p, p ∈ J → p.1 ≠ gN := fun p hp9 z9 => hp2.1 p hp9 z9.symm
  have hgg : g ≠ gN := hp.1 (gN, _) List.mem_cons_self
  have hne : ad (c_sd a b) ≠ g := hg.2 _ hl
  have hneN : ad (c_sd a b) ≠ gN := hgN.2 _ hl
  have nj := h.tail.tail.nj hl
  have hR := h.tail.tail.rm.se_next ha hb (z := sesN x1 x2 x3 x4 x5 x6) (se' := upd3 c.se a b 2 (some (sesN x1 x2 x3 x4 x5 x6))) (gS := g) (gN := gN) (w' := hu (dropJ w J) (ad (c_sd a b)) _) hg.2 hgN.2 hgg (by rw [hu_n (Ne.symm hne), dj_n hgJ]; exact hg.1) (by rw [hu_n (Ne.symm hneN), dj_n hgNJ]; exact hgN.1) (upd3_n (by omega)) (upd3_n (by omega)) upd3_s (fun i j k hn => upd3_n (fun z => hn ⟨z.1, z.2.1⟩)) hu_s (fun q h1 _ _ => hu_n h1) (fun q hq => roU (fun z9 => by cases z9) h.tail.tail.rm.ro hq)
  rw [← dj_hu nj] at hR
  exact pV_of (h.1.gc_sd ha hb) (by show _ < 11; decide) (k _ (h.tail.tail.sp (fun q hq => hu_n (nj q hq)) hR).q)
def repS (c : Sg) (e p : Nat) (z : Ses) : Sg := c.s_se (fun i j k => if i = e ∧ j = p then (match k with | 0 => c.se e p 1 | 1 => some z | k + 2 => c.se e p (k + 2)) else c.se i j k)
theorem y_sesrep {A ad : Ro → Nat} {c m : Sg} {ow : Nat → Bool} {th : Int32} {sm o : Int64} {w : Hp} {J : List (Nat × hE)} {g gN : Nat} {x1 x2 x3 x4 x5 x6 : Int32} {a b : Nat} {e1 : hE} (he1 : e1 = .inr (2, [.int (c.kn a b), va_rf (oS (c.se a b 1) (ad (c_se a b 1))), va_rf (oS (c.se a b 1) (ad (c_se a b 1))), va_rf (oS (c.se a b 2) (ad (c_se a b 2))), va_rf (oS (c.fl a b) (ad (c_fl a b))), .int (c.stT a b), .int (c.stS a b), .int (c.ck a b), .int (c.ckAt a b), rf (ad (c_pks a b)), .int (nI (c.nw a b))])) (h : DJ [(ad (c_sd a b), e1)] A ad c m ow th sm o w ((g, .inr (6, [.int x1, .int x2, .int x3, .int x4, .int x5, .int x6, rf gN, .int 0, .int (-1), .int 0])) :: (gN, aE 1 40 (fun _ => 0)) :: J)) (ha : a < 3) (hb : b < 3) {K : Hp → Prop} (k : ∀ w, Q A (repS c a b (sesN x1 x2 x3 x4 x5 x6)) m th sm o w J → K w) : pV w (A (c_sd a b)) 2 2 (va_rf (some g)) K := by
  rw [h.a (r := c_sd a b) rfl]
  obtain ⟨ws, h, h2, h3⟩ := h
  have hw0 := (h3 _ List.mem_cons_self).1
  have hws : ∀ q, q ≠ ad (c_sd a b) → w q = ws q := fun q hq => h2 q (fun d hd => by cases List.mem_singleton.mp hd; exact Ne.symm hq)
  rw [he1] at hw0
  have hl := l_c_sd (s := Wo.mk c m ow th sm o) ha hb
  have hg := h.2.1 (g, _) List.mem_cons_self
  have hgN := h.2.1 (gN, _) (List.mem_cons_of_mem _ List.mem_cons_self)
  have hp := List.pairwise_cons.mp h.2.2
  have hp2 := List.pairwise_cons.mp hp.2
  have hgJ : ∀ p, p ∈ J → p.1 ≠ g := fun p hp9 z9 => hp.1 p (List.mem_cons_of_mem _ hp9) z9.symm
  have hgNJ : ∀ p, p ∈ J → p.1 ≠ gN := fun p hp9 z9 => hp2.1 p hp9 z9.symm
  have hgg : g ≠ gN := hp.1 (gN, _) List.mem_cons_self
  have hne : ad (c_sd a b) ≠ g := hg.2 _ hl
  have hneN : ad (c_sd a b) ≠ gN := hgN.2 _ hl
  have nj := h.tail.tail.nj hl
  have hR := h.tail.tail.rm.se_reply ha hb (z := sesN x1 x2 x3 x4 x5 x6) (se' := (repS c a b (sesN x1 x2 x3 x4 x5 x6)).se) (gS := g) (gN := gN) (w' := hu (dropJ ws J) (ad (c_sd a b)) _) hg.2 hgN.2 hgg (by rw [hu_n (Ne.symm hne), dj_n hgJ]; exact hg.1) (by rw [hu_n (Ne.symm hneN), dj_n hgNJ]; exact hgN.1) (if_pos ⟨rfl, rfl⟩) (if_pos ⟨rfl, rfl⟩) (if_pos ⟨rfl, rfl⟩) (fun i j k hn => if_neg hn) hu_s (fun q h1 _ _ => hu_n h1) (fun q hq => roU (fun z9 => by cases z9) h.tail.tail.rm.ro hq)
  rw [← dj_hu nj] at hR
  refine pV_of hw0 (by show _ < 11; decide) ?_
  have e : ∀ x, hu w (ad (c_sd a b)) x = hu ws (ad (c_sd a b)) x := fun x => by
    funext q
    by_cases hq : q = ad (c_sd a b)
    · subst hq; rw [hu_s, hu_s]
    · rw [hu_n hq, hu_n hq, hws q hq]
  rw [e]
  exact k _ (h.tail.tail.sp (fun q hq => hu_n (nj q hq)) hR).q
theorem y_flnone {A ad : Ro → Nat} {c m : Sg} {ow : Nat → Bool} {th : Int32} {sm o : Int64} {w : Hp} {J : List (Nat × hE)} (h : RJ A ad c m ow th sm o w J) {a b : Nat} (ha : a < 3) (hb : b < 3) {K : Hp → Prop} (k : ∀ w, Q A (c.s_fl (upd2 c.fl a b none)) m th sm o w J → K w) : pV w (A (c_sd a b)) 2 4 (va_rf none) K := by
  rw [h.a (r := c_sd a b) rfl]
  have hl := l_c_sd (s := Wo.mk c m ow th sm o) ha hb
  have nj := h.nj hl
  have hR := h.rm.fl_none ha hb (w' := hu (dropJ w J) (ad (c_sd a b)) _) hu_s (fun q h1 => hu_n h1) (fun q hq => roU (fun z9 => by cases z9) h.rm.ro hq)
  rw [← dj_hu nj] at hR
  exact pV_of (h.1.gc_sd ha hb) (by show _ < 11; decide) (k _ (h.sp (fun q hq => hu_n (nj q hq)) hR).q)
theorem y_dirt {A ad : Ro → Nat} {c m : Sg} {ow : Nat → Bool} {th : Int32} {sm o : Int64} {w : Hp} {J : List (Nat × hE)} (h : RJ A ad c m ow th sm o w J) {a b : Nat} (ha : a < 3) (hb : b < 3) {K : Hp → Prop} (k : ∀ w e1, e1 = (.inr (2, [.int (c.kn a b), va_rf (oS (c.se a b 1) (ad (c_se a b 1))), va_rf (oS (c.se a b 1) (ad (c_se a b 1))), va_rf (oS (c.se a b 2) (ad (c_se a b 2))), va_rf (oS (c.fl a b) (ad (c_fl a b))), .int (c.stT a b), .int (c.stS a b), .int (c.ck a b), .int (c.ckAt a b), rf (ad (c_pks a b)), .int (nI (c.nw a b))]) : hE) → (∀ d, d ∈ [(ad (c_sd a b), e1)] → d.1 ≠ ad c_top) → DJ [(ad (c_sd a b), e1)] A ad c m ow th sm o w J → K w) : pV w (A (c_sd a b)) 2 1 (va_rf (oS (c.se a b 1) (ad (c_se a b 1)))) K := by
  have hl := l_c_sd (s := Wo.mk c m ow th sm o) ha hb
  have hnt : ad (c_sd a b) ≠ ad c_top := fun z9 => by cases h.1.inj _ _ hl (l_c_top (s := Wo.mk c m ow th sm o)) z9
  rw [h.a (r := c_sd a b) rfl]
  exact pV_of (h.1.gc_sd ha hb) (by show _ < 11; decide) (k _ _ rfl (fun d hd => by cases List.mem_singleton.mp hd; exact hnt) (h.dj.dirty hl rfl (fun d hd => by cases hd)))
