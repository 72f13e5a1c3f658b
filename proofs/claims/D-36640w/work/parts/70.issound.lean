/-! THE PLAIN LAW, 40: isSound of the objects, whole -/
set_option maxRecDepth 100000
set_option maxHeartbeats 4000000
theorem C_snd25 {A ad : Ro → Nat} {c m : Sg} {ow : Nat → Bool} {th : Int32} {sm o : Int64} {J : List (Nat × hE)} {pl e p B : Nat} (he : e < 3) (hp : p < 3) (hB : B ≤ 20) {K : Hp → Int32 → Prop} {bk10 : Hp → Nat → Nat → Int32 → Prop} {bk17 : Hp → Nat → Nat → Int32 → Int32 → Prop} (k9 : ∀ w mc d L P, AL A ad c m ow th sm o w J pl mc d L P → L.length ≤ (if p = e then B else B + 3) → bk17 w (A c_top) pl (nI e) (nI (p + 1))) : ∀ (n k : Nat) (w : Hp) (mc : Int32) (d : Nat) (L : List (Nat × Nat × Nat)) (P : List (Nat × hE)), k + n = 3 → (p = e → k = 0) → AL A ad c m ow th sm o w J pl mc d L P → L.length ≤ B + k → lpN (wp_X1_isSound_l25 K bk10 bk17) (n + 1) (w, A c_top, pl, nI e, nI p, nI k) := by
  intro n
  induction n with
  | zero =>
    intro k w mc d L P hk hke hA hL
    show wp_X1_isSound_s25 K bk10 bk17 (fun w a0 a1 x2 x3 x4 => lpN (wp_X1_isSound_l25 K bk10 bk17) 0 (w, a0, a1, x2, x3, x4)) w (A c_top) pl (nI e) (nI p) (nI k)
    unfold wp_X1_isSound_s25
    have nx : wp_X1_isSound_b69 K bk10 bk17 w (A c_top) pl (nI e) (nI p) := by
      unfold wp_X1_isSound_b69
      rw [nI_i1]
      exact y_nm (k9 w mc d L P hA (by
        by_cases q : p = e
        · have := hke q; omega
        · rw [if_neg q]; omega))
    by_cases hpe : p = e
    · exact y_br1 (by rw [hpe]) nx
    · exact y_br0 (fun z => hpe ((nI_i3 hp he).mp z)) (y_br1 (by rw [show k = 3 by omega]; exact Int32.le_refl _) nx)
  | succ n ih =>
    intro k w mc d L P hk hke hA hL
    show wp_X1_isSound_s25 K bk10 bk17 (fun w a0 a1 x2 x3 x4 => lpN (wp_X1_isSound_l25 K bk10 bk17) (n + 1) (w, a0, a1, x2, x3, x4)) w (A c_top) pl (nI e) (nI p) (nI k)
    unfold wp_X1_isSound_s25
    by_cases hpe : p = e
    · refine y_br1 (by rw [hpe]) ?_
      unfold wp_X1_isSound_b69
      rw [nI_i1]
      exact y_nm (k9 w mc d L P hA (by rw [if_pos hpe]; have := hke hpe; omega))
    · refine y_br0 (fun z => hpe ((nI_i3 hp he).mp z)) ?_
      have hk3 : k < 3 := by omega
      refine y_br0 (nI_ge hk3 (by decide)) ?_
      have h := hA.rj
      have nx : ∀ w mc d L P, AL A ad c m ow th sm o w J pl mc d L P → L.length ≤ B + (k + 1) → wp_X1_isSound_b63 K bk10 bk17 (fun w a0 a1 x2 x3 x4 => lpN (wp_X1_isSound_l25 K bk10 bk17) (n + 1) (w, a0, a1, x2, x3, x4)) w (A c_top) pl (nI e) (nI p) (nI k) := fun w mc d L P hA hL => by
        unfold wp_X1_isSound_b63
        rw [nI_i1]
        exact y_nm (ih (k + 1) w mc d L P (by omega) (fun q => absurd q hpe) hA hL)
      refine y_r_sds h (y_d_sds h he (y_d_sdr h he hp (y_o_sd h he hp ?_)))
      refine C_session h he hp hk3 ?_
      cases hz : c.se e p k with
      | none => exact y_br1 rfl (nx w mc d L P hA (by omega))
      | some z =>
        rw [show oS (some z) (ad (c_se e p k)) = some (ad (c_se e p k)) from rfl]
        refine y_br0 (fun q => by cases q) (dR_of ?_)
        have hlst : ∃ fs, w pl = some (.inr (7, fs)) := by
          obtain ⟨hR, -, -, hc⟩ := hA
          rcases hc with ⟨-, -, hP⟩ | ⟨cap, f, hP, -⟩
          · subst hP; exact ⟨_, RJ.j0 hR⟩
          · subst hP; exact ⟨_, RJ.j0 hR⟩
        refine ⟨hlst, ?_⟩
        refine y_aladd hA (by omega) (q := (e, p, k)) ⟨he, hp, hk3, by show (c.se e p k).isSome = true; rw [hz]; rfl⟩ (fun w mc d P hA => nx w mc d _ P hA (by simp; omega))
theorem C_snd17 {A ad : Ro → Nat} {c m : Sg} {ow : Nat → Bool} {th : Int32} {sm o : Int64} {J : List (Nat × hE)} {pl e : Nat} (he : e < 3) {K : Hp → Int32 → Prop} {bk10 : Hp → Nat → Nat → Int32 → Prop} (k9 : ∀ w mc d L P, AL A ad c m ow th sm o w J pl mc d L P → L.length ≤ 6 * e + 6 → bk10 w (A c_top) pl (nI (e + 1))) : ∀ (n p : Nat) (w : Hp) (mc : Int32) (d : Nat) (L : List (Nat × Nat × Nat)) (P : List (Nat × hE)), p + n = 3 → AL A ad c m ow th sm o w J pl mc d L P → L.length ≤ 6 * e + 3 * (if e < p then p - 1 else p) → lpN (wp_X1_isSound_l17 K bk10) (n + 1) (w, A c_top, pl, nI e, nI p) := by
  intro n
  induction n with
  | zero =>
    intro p w mc d L P hp hA hL
    show wp_X1_isSound_s17 K bk10 (fun w a0 a1 x2 x3 => lpN (wp_X1_isSound_l17 K bk10) 0 (w, a0, a1, x2, x3)) w (A c_top) pl (nI e) (nI p)
    unfold wp_X1_isSound_s17
    refine y_br1 (by rw [show p = 3 by omega]; exact Int32.le_refl _) ?_
    rw [nI_i1]
    exact y_nm (k9 w mc d L P hA (by rw [show p = 3 by omega, if_pos he] at hL; omega))
  | succ n ih =>
    intro p w mc d L P hp hA hL
    show wp_X1_isSound_s17 K bk10 (fun w a0 a1 x2 x3 => lpN (wp_X1_isSound_l17 K bk10) (n + 1) (w, a0, a1, x2, x3)) w (A c_top) pl (nI e) (nI p)
    unfold wp_X1_isSound_s17
    refine y_br0 (nI_ge (b := 3) (by omega) (by decide)) ?_
    unfold wp_X1_isSound_b25
    refine C_snd25 (B := 6 * e + 3 * (if e < p then p - 1 else p)) he (by omega) (by split <;> omega) (fun w mc d L P hA hL => ih (p + 1) w mc d L P (by omega) hA ?_) 3 0 w mc d L P rfl (fun _ => rfl) hA (by omega)
    by_cases q : p = e
    · rw [if_pos q, if_neg (by omega)] at hL
      rw [if_pos (by omega)]; omega
    · rw [if_neg q] at hL
      by_cases q2 : e < p
      · rw [if_pos q2] at hL
        rw [if_pos (by omega)]; omega
      · rw [if_neg q2] at hL
        rw [if_neg (by omega)]; omega
theorem C_snd10 {A ad : Ro → Nat} {c m : Sg} {ow : Nat → Bool} {th : Int32} {sm o : Int64} {J : List (Nat × hE)} {pl : Nat} {K : Hp → Int32 → Prop} (hS : SPs c) (hSL : SLt c) (h60 : c.nl ≤ 60) (k : ∀ w, RJ A ad c m ow th sm o w J → K w 1) : ∀ (n e : Nat) (w : Hp) (mc : Int32) (d : Nat) (L : List (Nat × Nat × Nat)) (P : List (Nat × hE)), e + n = 3 → AL A ad c m ow th sm o w J pl mc d L P → L.length ≤ 6 * e → lpN (wp_X1_isSound_l10 K) (n + 1) (w, A c_top, pl, nI e) := by
  intro n
  induction n with
  | zero =>
    intro e w mc d L P he hA hL
    show wp_X1_isSound_s10 K (fun w a0 a1 x2 => lpN (wp_X1_isSound_l10 K) 0 (w, a0, a1, x2)) w (A c_top) pl (nI e)
    unfold wp_X1_isSound_s10
    refine y_br1 (by rw [show e = 3 by omega]; exact Int32.le_refl _) ?_
    have hR : RJ A ad c m ow th sm o w ([] ++ (P ++ J)) := hA.1
    refine y_aliter (I := []) ⟨w, hA⟩ hR (fun w2 b2 h2 => ?_)
    unfold wp_X1_isSound_b86
    exact C_snd86 ⟨w, hA⟩ hS hSL h60 k 20 L.length 0 w2 (-1) (by omega) (by omega) h2
  | succ n ih =>
    intro e w mc d L P he hA hL
    show wp_X1_isSound_s10 K (fun w a0 a1 x2 => lpN (wp_X1_isSound_l10 K) (n + 1) (w, a0, a1, x2)) w (A c_top) pl (nI e)
    unfold wp_X1_isSound_s10
    refine y_br0 (nI_ge (b := 3) (by omega) (by decide)) ?_
    unfold wp_X1_isSound_b17
    exact C_snd17 (by omega) (fun w mc d L P hA hL => ih (e + 1) w mc d L P (by omega) hA (by omega)) 3 0 w mc d L P rfl hA (by rw [if_neg (by omega)]; omega)
theorem C_isSound {A ad : Ro → Nat} {c m : Sg} {ow : Nat → Bool} {th : Int32} {sm o : Int64} {w : Hp} {J : List (Nat × hE)} (h : RJ A ad c m ow th sm o w J) (hS : SPs c) (hSL : SLt c) (h60 : c.nl ≤ 60) {K : Hp → Int32 → Prop} (k : ∀ w, RJ A ad c m ow th sm o w J → K w 1) : wp_X1_isSound w (A c_top) K := by
  unfold wp_X1_isSound
  refine y_nO h (fun w b h => ?_)
  unfold wp_J2_init wp_J1_init wp_J0_init
  refine y_pV h [.int 0, .null, .int 0] (by decide) rfl (fun w h => ?_)
  intro a ha
  have e := h.1.ro a ha
  subst e
  refine y_pV h [.int 0, rf (ad c_e), .int 0] (by show _ < 3; decide) rfl (fun w h => ?_)
  unfold wp_X1_isSound_b10
  exact C_snd10 hS hSL h60 k 3 0 w 0 (ad c_e) [] _ rfl ⟨h, fun q hq => (by cases hq), by decide, Or.inl ⟨rfl, rfl, rfl⟩⟩ (by decide)
