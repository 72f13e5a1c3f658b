/-! THE PLAIN LAW, 37: iterators, and the checksum of the objects -/
set_option maxRecDepth 100000
set_option maxHeartbeats 4000000
abbrev itO (cur last mc : Int32) (p : Nat) : hE := .inr (8, [.int cur, .int last, .int mc, rf p])
theorem y_iter {A ad : Ro → Nat} {c m : Sg} {ow : Nat → Bool} {th : Int32} {sm o : Int64} {w : Hp} {J : List (Nat × hE)} (h : RJ A ad c m ow th sm o w J) {p : Nat} {mc : Int32} {fs : List Value} (hp : w p = some (.inr (7, .int mc :: fs))) {K : Hp → Option Nat → Prop} (k : ∀ w' b, RJ A ad c m ow th sm o w' ((b, itO 0 (-1) mc p) :: J) → (∀ q e, w q = some e → w' q = some e) → K w' (some b)) : wp_J2_iterator w p K := by
  unfold wp_J2_iterator wp_J17_init
  intro b hb
  have h := h.new (e := .inr (8, fsJ17)) hb (fun z => by cases z)
  have hne : p ≠ b := fun z => by rw [z, hb] at hp; cases hp
  have hpr : ∀ q e, w q = some e → q ≠ b := fun q e hq z => by rw [z, hb] at hq; cases hq
  refine pV_to [.int 0, .int 0, .int 0, rf p] hu_s (by decide) rfl ?_
  refine pV_to [.int 0, .int (-1), .int 0, rf p] hu_s (by show _ < 4; decide) rfl ?_
  refine gD_of hu_s rfl (gI_of (v := mc) (by rw [hu_n hne, hu_n hne, hu_n hne]; exact hp) rfl ?_)
  refine pV_to [.int 0, .int (-1), .int mc, rf p] hu_s (by show _ < 4; decide) rfl ?_
  rw [hu_hu, hu_hu, hu_hu]
  refine k _ b ?_ (fun q e hq => by rw [hu_n (hpr q e hq)]; exact hq)
  have h2 := h.set (e' := itO 0 (-1) mc p) (fun z => by cases z)
  rw [hu_hu] at h2
  exact h2
theorem y_hasNext {A ad : Ro → Nat} {c m : Sg} {ow : Nat → Bool} {th : Int32} {sm o : Int64} {w : Hp} {J : List (Nat × hE)} {b p i n : Nat} {l mc : Int32} {v : Value} {mc' : Int32} (h : RJ A ad c m ow th sm o w ((b, itO (nI i) l mc p) :: J)) (hp : w p = some (.inr (7, [.int mc', v, .int (nI n)]))) (hi : i ≤ n) (hn : n < 2 ^ 31) {K : Hp → Int32 → Prop} (k0 : i = n → K w 0) (k1 : i < n → K w 1) : wp_J17_hasNext w b K := by
  unfold wp_J17_hasNext
  refine gI_of h.j0 rfl (gD_of h.j0 rfl (gI_of hp rfl ?_))
  by_cases e : i = n
  · exact y_br1 (by rw [e]) (k0 e)
  · exact y_br0 (fun z => e ((nI_eq (by omega) hn).mp z)) (k1 (by omega))
theorem y_next {A ad : Ro → Nat} {c m : Sg} {ow : Nat → Bool} {th : Int32} {sm o : Int64} {w : Hp} {J : List (Nat × hE)} {b p i n d cap : Nat} {l mc : Int32} {f : Nat → Option Nat} (h : RJ A ad c m ow th sm o w ((b, itO (nI i) l mc p) :: J)) (hp : w p = some (.inr (7, [.int mc, rf d, .int (nI n)]))) (hd : w d = some (aP 6 cap f)) (hi : i < n) (hnc : n ≤ cap) (hcap : cap < 2 ^ 31) (hpb : p ≠ b) (hdb : d ≠ b) {K : Hp → Option Nat → Prop} (k : ∀ w', RJ A ad c m ow th sm o w' ((b, itO (nI (i + 1)) (nI i) mc p) :: J) → (∀ q, q ≠ b → w' q = w q) → K w' (f i)) : wp_J17_next w b K := by
  unfold wp_J17_next wp_J17_checkForComodification
  refine isO_of h.j0 (gD_of h.j0 rfl (gI_of hp rfl (gI_of h.j0 rfl (y_br1 rfl ?_))))
  refine gI_of h.j0 rfl (gD_of h.j0 rfl (gI_of hp rfl (y_br1 (nI_lt hi (by omega)) ?_)))
  refine gD_of h.j0 rfl (gD_of hp rfl ?_)
  refine ⟨6, cap, _, hd, by decide, y_br1 (nI_lt (by omega) hcap) ?_⟩
  refine pV_to [.int (nI (i + 1)), .int l, .int mc, rf p] h.j0 (by show _ < 4; decide) (by rw [nI_i1]; rfl) ?_
  refine pV_to [.int (nI (i + 1)), .int (nI i), .int mc, rf p] hu_s (by show _ < 4; decide) rfl ?_
  rw [hu_hu]
  refine aR_at (f := f) (n := cap) (t := 6) (by rw [hu_n hdb]; exact hd) (by omega) ?_ (hn := hcap)
  exact k _ (h.set (fun z => by cases z)) (fun q hq => hu_n hq)
/-- the codes, behind all -/
def rsO (c : Sg) : Nat → Nat → List Int32
  | 0, _ => []
  | n + 1, e => outL c e ++ rsO c n (e + 1)
theorem rsO_all (c : Sg) : rsO c 3 0 = (List.range 3).flatMap (outL c) := by
  show outL c 0 ++ (outL c 1 ++ (outL c 2 ++ [])) = _
  rw [flatMap_up, flatMap_up, flatMap_up]
  simp
theorem drop_at {α : Type} {l : List α} {i : Nat} (h : i < l.length) : l.drop i = l[i] :: l.drop (i + 1) := List.drop_eq_getElem_cons h
theorem C_ck410 {A ad : Ro → Nat} {c m : Sg} {ow : Nat → Bool} {th : Int32} {sm o : Int64} {w : Hp} {J : List (Nat × hE)} (h : RJ A ad c m ow th sm o w J) {i a3 : Nat} (hi : i < c.nl) (d : Int64) {K : Hp → Int64 → Prop} {bk : Hp → Nat → Int64 → Option Nat → Prop} (k : bk w (A c_top) (ckF d (letL (c.lt i))) (some a3)) : wp_X1_checksum_b410 K bk w (A c_top) d a3 (some (ad (c_lt i))) 0 := by
  unfold wp_X1_checksum_b410
  rw [show (w, A c_top, d, a3, some (ad (c_lt i)), (0 : Int32)) = (fun j => (w, A c_top, ckF d ((List.range j).map (fun y => tellL (c.lt i) (nI y))), a3, some (ad (c_lt i)), nI j)) 0 from rfl]
  refine lp_for (fun j => (w, A c_top, ckF d ((List.range j).map (fun y => tellL (c.lt i) (nI y))), a3, some (ad (c_lt i)), nI j)) 9 (fun j back hj hback => ?_)
  show wp_X1_checksum_s410 K bk (fun w a0 x1 a3 r4 x5 => back (w, a0, x1, a3, r4, x5)) w (A c_top) (ckF d ((List.range j).map (fun y => tellL (c.lt i) (nI y)))) a3 (some (ad (c_lt i))) (nI j)
  unfold wp_X1_checksum_s410
  by_cases h9 : j < 9
  · refine y_br0 (nI_ge h9 (by decide)) (dR_of (y_lo h hi ?_))
    refine C_tell h hi (nI_pos (by omega)) (show nI j ≤ nI 8 from nI_le (by omega) (by decide)) (y_nm (y_nm ?_))
    rw [nI_i1]
    have := hback h9
    rw [map_up, ckF_app, ckF_one] at this
    exact this
  · have e : j = 9 := by omega
    subst e
    exact y_br1 (Int32.le_refl _) k
theorem C_ck387 {A ad : Ro → Nat} {c m : Sg} {ow : Nat → Bool} {th : Int32} {sm o : Int64} {J : List (Nat × hE)} (h60 : c.nl ≤ 60) {K : Hp → Int64 → Prop} {d0 : Int64} {mc : Int32} {b : Nat} (hmc : ∀ w J', RJ A ad c m ow th sm o w J' → True) (k : ∀ w, RJ A ad c m ow th sm o w J → K w (ckF (ckF d0 ((List.range c.nl).flatMap (fun i => letL (c.lt i)))) (codL c))) : ∀ (n i : Nat) (w : Hp) (l : Int32), i + n = c.nl → RJ A ad c m ow th sm o w ((b, itO (nI i) l mc (ad c_lts)) :: J) → (∃ d, w (ad c_lts) = some (.inr (7, [.int mc, rf d, .int (nI c.nl)]))) → lpN (wp_X1_checksum_l387 K) (n + 1) (w, A c_top, ckF d0 ((List.range i).flatMap (fun i => letL (c.lt i))), some b) := by
  intro n
  induction n with
  | zero =>
    intro i w l hi h ⟨d, hp⟩
    show wp_X1_checksum_s387 K (fun w a0 x1 r3 => lpN (wp_X1_checksum_l387 K) 0 (w, a0, x1, r3)) w (A c_top) (ckF d0 ((List.range i).flatMap (fun i => letL (c.lt i)))) (some b)
    unfold wp_X1_checksum_s387
    refine dR_of (isO_of h.j0 (y_hasNext h hp (by omega) (by omega) (fun _ => y_br1 rfl ?_) (fun z => by omega)))
    refine y_r_co h ?_
    rw [h.a (r := c_co) rfl]
    refine ⟨0, 11, _, h.1.gc_co, by decide, ?_⟩
    rw [← h.a (r := c_co) rfl, show i = c.nl by omega]
    exact C_ck453 h _ (k w h.tail)
  | succ n ih =>
    intro i w l hi h ⟨d, hp⟩
    show wp_X1_checksum_s387 K (fun w a0 x1 r3 => lpN (wp_X1_checksum_l387 K) (n + 1) (w, a0, x1, r3)) w (A c_top) (ckF d0 ((List.range i).flatMap (fun i => letL (c.lt i)))) (some b)
    unfold wp_X1_checksum_s387
    have hl := l_c_lts (s := Wo.mk c m ow th sm o)
    have how := y_low h (by omega)
    have hl2 := l_c_lta (s := Wo.mk c m ow th sm o) how
    have hba := (h.2.1 (b, _) List.mem_cons_self).2
    refine dR_of (isO_of h.j0 (y_hasNext h hp (by omega) (by omega) (fun z => by omega) (fun _ => y_br0 (by decide) (isO_of h.j0 ?_))))
    obtain ⟨mc2, h1, -⟩ := h.1.gc_lts
    rw [show (Wo.mk c m ow th sm o).ow 0 = true from how] at h1
    have hd : d = ad c_lta := by
      have e9 := hp.symm.trans h1
      cases e9
      rfl
    subst hd
    obtain ⟨cap, f, g1, g2, g3, g4, g5⟩ := h.1.gc_lta how
    refine y_next h hp g1 (by omega) g2 (by omega) (hba _ hl) (hba _ hl2) (fun w' h' hw' => ?_)
    rw [g5 i (by show i < c.nl; omega)]
    refine y_lck h' (by omega) ?_
    refine C_ck410 h' (by omega) _ ?_
    have := ih (i + 1) w' (nI i) (by omega) h' ⟨_, (hw' _ (hba _ hl)).trans hp⟩
    rw [flatMap_up, ckF_app] at this
    exact this
theorem C_ck336 {A ad : Ro → Nat} {c m : Sg} {ow : Nat → Bool} {th : Int32} {sm o : Int64} {J : List (Nat × hE)} {e : Nat} (he : e < 3) (h64 : (c.po e).length ≤ 64) {K : Hp → Int64 → Prop} {bk : Hp → Nat → Int64 → Int32 → Prop} {R9 : Int64} {mc : Int32} {b : Nat} (k : ∀ w, RJ A ad c m ow th sm o w J → bk w (A c_top) R9 (nI (e + 1))) : ∀ (n i : Nat) (w : Hp) (l : Int32) (d0 : Int64), i + n = (c.po e).length → ckF d0 (((c.po e).drop i).map Go.ld) = R9 → RJ A ad c m ow th sm o w ((b, itO (nI i) l mc (ad (c_rw e))) :: J) → (∃ d, w (ad (c_rw e)) = some (.inr (7, [.int mc, rf d, .int (nI (c.po e).length)]))) → lpN (wp_X1_checksum_l336 K bk) (n + 1) (w, A c_top, d0, nI e, some b) := by
  intro n
  induction n with
  | zero =>
    intro i w l d0 hi hR h ⟨d, hp⟩
    show wp_X1_checksum_s336 K bk (fun w a0 x1 x3 r4 => lpN (wp_X1_checksum_l336 K bk) 0 (w, a0, x1, x3, r4)) w (A c_top) d0 (nI e) (some b)
    unfold wp_X1_checksum_s336
    refine dR_of (isO_of h.j0 (y_hasNext h hp (by omega) (by omega) (fun _ => y_br1 rfl ?_) (fun z => by omega)))
    rw [List.drop_eq_nil_of_le (by omega)] at hR
    have hR' : d0 = R9 := hR
    rw [nI_i1, hR']
    exact y_nm (k w h.tail)
  | succ n ih =>
    intro i w l d0 hi hR h ⟨d, hp⟩
    show wp_X1_checksum_s336 K bk (fun w a0 x1 x3 r4 => lpN (wp_X1_checksum_l336 K bk) (n + 1) (w, a0, x1, x3, r4)) w (A c_top) d0 (nI e) (some b)
    unfold wp_X1_checksum_s336
    have hl := l_c_rw (s := Wo.mk c m ow th sm o) he
    have how : ow (2 + e) = true := by
      obtain ⟨mc, h1, h2⟩ := h.1.gc_rw he
      cases how : ow (2 + e) with
      | true => rfl
      | false => have : (c.po e).length = 0 := h2 how; omega
    have hl2 := l_c_rwd (s := Wo.mk c m ow th sm o) he how
    have hba := (h.2.1 (b, _) List.mem_cons_self).2
    refine dR_of (isO_of h.j0 (y_hasNext h hp (by omega) (by omega) (fun z => by omega) (fun _ => y_br0 (by decide) (isO_of h.j0 ?_))))
    obtain ⟨mc2, h1, -⟩ := h.1.gc_rw he
    rw [show (Wo.mk c m ow th sm o).ow (2 + e) = true from how] at h1
    have hd : d = ad (c_rwd e) := by
      have e9 := hp.symm.trans h1
      cases e9
      rfl
    subst hd
    obtain ⟨cap, f, g1, g2, g3, g4, g5⟩ := h.1.gc_rwd he how
    have hin : i < (c.po e).length := by omega
    refine y_next h hp g1 hin g2 (by omega) (hba _ hl) (hba _ hl2) (fun w' h' hw' => ?_)
    rw [g5 i hin]
    obtain ⟨f8, q1, q2⟩ := h'.1.gc_rp he (b := i) hin
    refine ⟨fun v hv => by cases hv; exact ⟨_, q1⟩, dR_of ?_⟩
    refine (aI_at q1 (i := 3) (by decide) ?_ : aI w' _ (nI 3) _)
    refine y_nm ?_
    rw [(q2 _ (List.getElem?_eq_getElem hin)).2.2.2]
    refine ih (i + 1) w' (nI i) _ (by omega) ?_ h' ⟨_, (hw' _ (hba _ hl)).trans hp⟩
    rw [drop_at hin] at hR
    exact hR
