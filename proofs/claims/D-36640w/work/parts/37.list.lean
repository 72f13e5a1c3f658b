/-! THE PLAIN LAW, 7: ArrayList's methods, over the world -/
set_option maxRecDepth 100000
theorem hu_hu {w : Hp} {p : Nat} {e e' : hE} : hu (hu w p e) p e' = hu w p e' := by
  funext b
  unfold hu
  split <;> rfl
theorem pV_to {w : Hp} {p ci k : Nat} {fs : List Value} (fs' : List Value) {v : Value} {c : Hp → Prop} (hw : w p = some (.inr (ci, fs))) (hk : k < fs.length) (hs : fs.set k v = fs') (h : c (hu w p (.inr (ci, fs')))) : pV w p ci k v c := ⟨fs, hw, hk, by rw [hs]; exact h⟩
theorem J_size {w : Hp} {p d n : Nat} {mc : Int32} {K : Hp → Int32 → Prop} (hp : w p = some (.inr (7, [.int mc, rf d, .int (nI n)]))) (h : K w (nI n)) : wp_J2_size w p K := gI_of hp rfl h
theorem J_checkIndex {w : Hp} {i n : Nat} {K : Hp → Int32 → Prop} (hi : i < n) (hn : n < 2 ^ 31) (h : K w (nI i)) : wp_J15_checkIndex w (nI i) (nI n) K :=
  ⟨fun z => absurd z (nI_pos (by omega)), fun _ => ⟨fun _ => h, fun z => absurd (nI_lt hi hn) z⟩⟩
theorem J_get {w : Hp} {p d n i c : Nat} {mc : Int32} {f : Nat → Option Nat} {K : Hp → Option Nat → Prop} (hp : w p = some (.inr (7, [.int mc, rf d, .int (nI n)]))) (hd : w d = some (aP 6 c f)) (hi : i < n) (hn : n ≤ c) (hc : c < 2 ^ 31) (h : K w (f i)) : wp_J2_get w p (nI i) K := by
  refine gI_of hp rfl (J_checkIndex hi (by omega) (isO_of hp (gD_of hp rfl ?_)))
  exact ⟨6, c, f, by decide, by decide, hd, nI_in (by omega) hc, by rw [nI_clamp (by omega)]; exact h⟩
theorem sub1 {n : Nat} (h : 0 < n) : nI n - 1 = nI (n - 1) := by
  obtain ⟨m, rfl⟩ : ∃ m, n = m + 1 := ⟨n - 1, by omega⟩
  exact nI_pred m
theorem nI_sub {a b : Nat} (h : b ≤ a) : nI a - nI b = nI (a - b) := by
  have : nI a = nI (a - b) + nI b := by rw [nI_add, Nat.sub_add_cancel h]
  rw [this, Int32.add_sub_cancel]
/-- what remove(i) leaves -/
theorem J_remove {w : Hp} {p d n i c : Nat} {mc : Int32} {f : Nat → Option Nat} {K : Hp → Option Nat → Prop} (hp : w p = some (.inr (7, [.int mc, rf d, .int (nI n)]))) (hd : w d = some (aP 6 c f)) (hi : i < n) (hn : n ≤ c) (hc : c < 2 ^ 20) (hel : ∀ j, j < n → ∀ y, f j = some y → y ≠ p ∧ y ≠ d ∧ hAnyO w y)
    (h : ∀ g : Nat → Option Nat, (∀ j, j < n - 1 → g j = f (if j < i then j else j + 1)) → K (hu (hu w p (.inr (7, [.int (mc + 1), rf d, .int (nI (n - 1))]))) d (aP 6 c g)) (f i)) : wp_J2_remove w p (nI i) K := by
  have hpd : d ≠ p := fun z => by rw [z, hp] at hd; cases hd
  refine gI_of hp rfl (J_checkIndex hi (by omega) (gD_of hp rfl ?_))
  refine ⟨6, c, f, by decide, by decide, hd, nI_in (by omega) (by omega), ?_⟩
  rw [nI_clamp (by omega)]
  refine isO_of hp ?_
  refine gI_of hp rfl (pV_to [.int (mc + 1), rf d, .int (nI n)] hp (by decide : 0 < 3) rfl ?_)
  have hp1 : hu w p (.inr (7, [.int (mc + 1), rf d, .int (nI n)])) p = some (.inr (7, [.int (mc + 1), rf d, .int (nI n)])) := hu_s
  refine gI_of hp1 rfl ?_
  rintro _ rfl
  rw [sub1 (by omega)]
  have hd1 : hu w p (.inr (7, [.int (mc + 1), rf d, .int (nI n)])) d = some (aP 6 c f) := by rw [hu_n hpd]; exact hd
  have last : ∀ (w2 : Hp) (g : Nat → Option Nat), w2 p = some (.inr (7, [.int (mc + 1), rf d, .int (nI n)])) → w2 d = some (aP 6 c g) → K (hu (hu w2 p (.inr (7, [.int (mc + 1), rf d, .int (nI (n - 1))]))) d (aP 6 c (va_up g (n - 1) none))) (f i) → wp_J2_fastRemove_b34 (fun w => K w (f i)) w2 p d (nI (n - 1)) := by
    intro w2 g h1 h2 h3
    refine pV_to [.int (mc + 1), rf d, .int (nI (n - 1))] h1 (by decide : 2 < 3) rfl ?_
    refine ⟨6, c, g, by decide, by decide, by rw [hu_n hpd]; exact h2, nI_in (by omega) (by omega), fun _ => rfl, fun v hv => (by cases hv), ?_⟩
    rw [nI_clamp (by omega)]
    exact h3
  refine ⟨fun hc1 => ?_, fun hc1 => ?_⟩
  · rw [nI_leI (by omega) (by omega)] at hc1
    refine last _ f hp1 hd1 ?_
    rw [hu_hu]
    refine h _ (fun j hj => ?_)
    rw [if_pos (by omega), va_up_ne _ _ (by omega)]
  · rw [nI_leI (by omega) (by omega)] at hc1
    refine ⟨c, c, f, f, hd1, hd1, by rw [nI_1]; exact nI_pos (by omega), nI_pos (by omega), by rw [nI_sub (by omega)]; exact nI_pos (by omega), ?_, ?_, ?_, ?_⟩
    · rw [nI_1, nI_sub (by omega), nI_clamp (by omega), nI_clamp (by omega)]; omega
    · rw [nI_sub (by omega), nI_clamp (by omega), nI_clamp (by omega)]; omega
    · intro j hj y hy
      rw [nI_sub (by omega), nI_clamp (by omega)] at hj
      rw [nI_1, nI_clamp (by omega)] at hy
      obtain ⟨y1, y2, e, y3, y4⟩ := hel _ (by omega) y hy
      exact ⟨e, by rw [hu_n y1]; exact y3, y4⟩
    · rw [nI_1, nI_sub (by omega), nI_clamp (by omega), nI_clamp (by omega), nI_clamp (by omega)]
      refine last _ _ (by rw [hu_n (Ne.symm hpd)]; exact hp1) hu_s ?_
      have e1 : hu (hu (hu w p (.inr (7, [.int (mc + 1), rf d, .int (nI n)]))) d (.inl (6, c, hr_ (va_cpy f f (i + 1) i (n - 1 - i))))) p (.inr (7, [.int (mc + 1), rf d, .int (nI (n - 1))])) = hu (hu w p (.inr (7, [.int (mc + 1), rf d, .int (nI (n - 1))]))) d (.inl (6, c, hr_ (va_cpy f f (i + 1) i (n - 1 - i)))) := by
        funext b
        unfold hu
        by_cases q1 : b = p
        · subst q1; rw [if_pos rfl, if_neg (Ne.symm hpd), if_pos rfl]
        · by_cases q2 : b = d
          · subst q2; rw [if_neg q1, if_pos rfl, if_pos rfl]
          · rw [if_neg q1, if_neg q2, if_neg q1, if_neg q2, if_neg q1]
      rw [e1, hu_hu]
      refine h _ (fun j hj => ?_)
      rw [va_up_ne _ _ (by omega)]
      unfold va_cpy
      by_cases q : j < i
      · rw [if_pos q, if_neg (by omega)]
      · rw [if_neg q, if_pos (by omega)]
        congr 1; omega
/-- a new array twice as long, or half as long again -/
theorem J_newLength {w : Hp} {c g h : Nat} {K : Hp → Int32 → Prop} (hb : c + g + h < 2 ^ 30) (h0 : 0 < c + max g h) (hk : K w (nI (c + max g h))) : wp_J3_newLength w (nI c) (nI g) (nI h) K := by
  have tail : ∀ m : Nat, m = max g h → K w (nI (c + m)) → br (nI c + nI m ≤ (0 : Int32)) (wp_J3_newLength_b21 K w (nI c) (nI g)) (br ((2147483639 : Int32) < nI c + nI m) (wp_J3_newLength_b21 K w (nI c) (nI g)) (K w (nI c + nI m))) := by
    intro m hm hkm
    rw [nI_add]
    refine ⟨fun z => absurd z (nI_nle (by omega) (by omega)), fun _ => ⟨fun z => ?_, fun _ => hkm⟩⟩
    exact absurd z (nI_nlt (a := 2147483639) (by omega) (by decide))
  refine ⟨fun z => ?_, fun z => ?_⟩
  · rw [nI_ltI (by omega) (by omega)] at z
    rintro _ rfl
    exact tail h (by omega) (by rwa [show max g h = h by omega] at hk)
  · rw [nI_ltI (by omega) (by omega)] at z
    rintro _ rfl
    exact tail g (by omega) (by rwa [show max g h = g by omega] at hk)
theorem J_copyOf {w : Hp} {d c m : Nat} {f : Nat → Option Nat} {K : Hp → Option Nat → Prop} (hd : w d = some (aP 6 c f)) (hcm : c ≤ m) (hm : m ≤ 256) (hel : ∀ j, j < c → ∀ y, f j = some y → hAnyO w y) (h : ∀ b g, w b = none → (∀ j, j < c → g j = f j) → K (hu w b (aP 6 m g)) (some b)) : wp_J5_copyOf w d (nI m) K := by
  refine ⟨⟨_, hd⟩, nI_pos (by omega), by rw [nI_clamp (by omega)]; exact hm, fun b hb => ?_⟩
  have hdb : d ≠ b := fun z => by rw [z, hb] at hd; cases hd
  rw [nI_clamp (by omega)]
  refine ⟨6, c, _, by rw [hu_n hdb]; exact hd, by decide, ?_⟩
  refine ⟨fun z => absurd z ?_, fun _ => ?_⟩
  · show ¬ nI m < nI c
    exact nI_nlt hcm (by omega)
  · refine ⟨c, m, f, _, by rw [hu_n hdb]; exact hd, hu_s, nI_pos (n := 0) (by decide), nI_pos (n := 0) (by decide), nI_pos (n := c) (by omega), ?_, ?_, ?_, ?_⟩
    · show (nI 0).toNatClampNeg + (nI c).toNatClampNeg ≤ c
      rw [nI_clamp (by omega), nI_clamp (by omega)]; omega
    · show (nI 0).toNatClampNeg + (nI c).toNatClampNeg ≤ m
      rw [nI_clamp (by omega), nI_clamp (by omega)]; omega
    · intro j hj y hy
      have hj' : j < (nI c).toNatClampNeg := hj
      have hy' : f ((nI 0).toNatClampNeg + j) = some y := hy
      rw [nI_clamp (by omega)] at hj'
      rw [nI_clamp (by omega), Nat.zero_add] at hy'
      obtain ⟨e, h1, h2⟩ := hel j hj' y hy'
      exact ⟨e, by rw [hu_n (fun z => by rw [z, hb] at h1; cases h1)]; exact h1, h2⟩
    · rw [hu_hu]
      refine h b _ hb (fun j hj => ?_)
      show va_cpy f _ (nI 0).toNatClampNeg (nI 0).toNatClampNeg (nI c).toNatClampNeg j = f j
      rw [nI_clamp (by omega), nI_clamp (by omega)]
      unfold va_cpy
      rw [if_pos (by omega)]
      congr 1; omega
/-- what add(v) leaves -/
theorem J_add {w : Hp} {p d n v e0 : Nat} {mc : Int32} {el : Nat → Nat} {K : Hp → Int32 → Prop} (hn64 : n ≤ 64) (hp : w p = some (.inr (7, [.int mc, rf d, .int (nI n)]))) (he0 : ∀ a, w a = some roE → a = e0) (hde : w d = some roE → n = 0 ∧ d = e0)
    (hd : w d ≠ some roE → ∃ c f, w d = some (aP 6 c f) ∧ n ≤ c ∧ 0 < c ∧ c ≤ 128 ∧ (n = c → ∀ j, j < n → f j = some (el j)) ∧ (∀ j, j < n → f j = some (el j) ∧ hAnyO w (el j))) (hdd : w d = some roE ∨ w d ≠ some roE) (hvp : v ≠ p) (hv : ∃ e, w v = some e ∧ hok 6 e)
    (h : ∀ (w' : Hp) (d' c' : Nat) (f' : Nat → Option Nat), w' p = some (.inr (7, [.int (mc + 1), rf d', .int (nI (n + 1))])) → w' d' = some (aP 6 c' f') → n + 1 ≤ c' → c' ≤ 128 → (∀ j, j < n → f' j = some (el j)) → f' n = some v → ((d' = d ∧ w d ≠ some roE) ∨ w d' = none) → (∀ q, q ≠ p → q ≠ d' → w' q = w q) → K w' 1) : wp_J2_add w p v K := by
  have hp1 : hu w p (.inr (7, [.int (mc + 1), rf d, .int (nI n)])) p = some (.inr (7, [.int (mc + 1), rf d, .int (nI n)])) := hu_s
  have hdp : d ≠ p := fun z => by
    rcases hdd with q | q
    · rw [z, hp] at q; cases q
    · obtain ⟨c, f, q1, -⟩ := hd q
      rw [z, hp] at q1; cases q1
  obtain ⟨ev, hv1, hv2⟩ := hv
  -- the store and the new size
  have last : ∀ (w2 : Hp) (d2 c2 : Nat) (f2 : Nat → Option Nat), w2 p = some (.inr (7, [.int (mc + 1), rf d2, .int (nI n)])) → w2 d2 = some (aP 6 c2 f2) → n < c2 → c2 ≤ 128 → (∀ j, j < n → f2 j = some (el j)) → w2 v = some ev → ((d2 = d ∧ w d ≠ some roE) ∨ w d2 = none) → (∀ q, q ≠ p → q ≠ d2 → w2 q = w q) → wp_J2_add_2_b11 (fun w => K w (1 : Int32)) w2 p v (some d2) (nI n) := by
    intro w2 d2 c2 f2 h1 h2 h3 h4 h5 h6 h7 h8
    have hd2p : d2 ≠ p := fun z => by rw [z, h1] at h2; cases h2
    refine dR_of ⟨6, c2, f2, by decide, by decide, h2, nI_in h3 (by omega), fun z => (by cases z), fun v' hv' => ⟨ev, by cases hv'; exact h6, hv2⟩, ?_⟩
    rw [nI_clamp (by omega)]
    refine pV_to (fs := [.int (mc + 1), rf d2, .int (nI n)]) [.int (mc + 1), rf d2, .int (nI (n + 1))] (by rw [hu_n (Ne.symm hd2p)]; exact h1) (by decide : 2 < 3) (by rw [nI_1]; rfl) ?_
    refine h _ d2 c2 (va_up f2 n (some v)) hu_s (by rw [hu_n hd2p]; exact hu_s) (by omega) h4 (fun j hj => by rw [va_up_ne _ _ (by omega)]; exact h5 j hj) (va_up_self _ _ _) h7 (fun q q1 q2 => ?_)
    rw [hu_n q1, hu_n q2]; exact h8 q q1 q2
  refine gI_of hp rfl (pV_to [.int (mc + 1), rf d, .int (nI n)] hp (by decide : 0 < 3) rfl (gR_of hp1 rfl (gI_of hp1 rfl (dR_of (isO_of hp1 ?_)))))
  have hv3 : hu w p (.inr (7, [.int (mc + 1), rf d, .int (nI n)])) v = some ev := by rw [hu_n hvp]; exact hv1
  rcases hdd with q | q
  · obtain ⟨hn0, hde0⟩ := hde q
    subst hn0
    have q1 : hu w p (.inr (7, [.int (mc + 1), rf d, .int (nI 0)])) d = some roE := by rw [hu_n hdp]; exact q
    have q2 : ∀ b, hu w p (.inr (7, [.int (mc + 1), rf d, .int (nI 0)])) b = some roE → b = d := fun b hb => by
      rw [hu_n (fun z => by rw [z, hu_s] at hb; cases hb)] at hb
      rw [hde0]; exact he0 b hb
    refine ⟨13, 0, _, q1, by decide, ⟨fun _ => ?_, fun z => absurd rfl z⟩⟩
    refine isO_of hp1 (gI_of hp1 rfl (isO_of hp1 ?_))
    refine gR_of hp1 rfl (dR_of ⟨13, 0, _, q1, by decide, ⟨fun z => absurd z (by decide), fun _ => ?_⟩⟩)
    refine gR_of hp1 rfl (fun b6 hb6 => ⟨fun _ => ?_, fun z => absurd (by rw [q2 b6 hb6]) z⟩)
    refine ⟨fun z => absurd z (by decide), fun _ => ⟨by decide, by decide, fun b hb => ?_⟩⟩
    have hbp : p ≠ b := fun z => by rw [← z, hp1] at hb; cases hb
    have hbv : v ≠ b := fun z => by rw [← z, hv3] at hb; cases hb
    refine pV_to (fs := [.int (mc + 1), rf d, .int (nI 0)]) [.int (mc + 1), rf b, .int (nI 0)] (by rw [hu_n hbp]; exact hp1) (by decide : 1 < 3) rfl ?_
    have hwb : w b = none := by rw [hu_n (Ne.symm hbp)] at hb; exact hb
    refine last _ b 10 (fun _ => none) hu_s (by rw [hu_n (Ne.symm hbp), hu_s]; rfl) (by decide) (by decide) (fun j hj => by omega) (by rw [hu_n hvp, hu_n hbv]; exact hv3) (Or.inr hwb) (fun q9 h1 h2 => ?_)
    rw [hu_n h1, hu_n h2, hu_n h1]
  · obtain ⟨c, f, h1, h2, h3, h4, h5, h6⟩ := hd q
    have q1 : hu w p (.inr (7, [.int (mc + 1), rf d, .int (nI n)])) d = some (aP 6 c f) := by rw [hu_n hdp]; exact h1
    refine ⟨6, c, _, q1, by decide, ⟨fun hnc => ?_, fun hnc => ?_⟩⟩
    · have hnc : n = c := (nI_eq (by omega) (by omega)).mp hnc
      subst hnc
      refine isO_of hp1 (gI_of hp1 rfl (isO_of hp1 ?_))
      refine gR_of hp1 rfl (dR_of ⟨6, n, _, q1, by decide, ⟨fun _ => ?_, fun z => absurd (nI_lt h3 (by omega)) z⟩⟩)
      show wp_J3_newLength _ (nI n) (nI n + 1 - nI n) (nI n >>> ((1 : Int32) &&& 31)) _
      rw [nI_1, nI_sub (by omega), show n + 1 - n = 1 by omega, n3_shr1 (by omega)]
      refine J_newLength (by omega) (by omega) (gR_of hp1 rfl (dR_of ?_))
      refine J_copyOf q1 (by omega) (by omega) (fun j hj y hy => ?_) (fun b g hb hg => ?_)
      · obtain ⟨z1, e, z2, z3⟩ := h6 j hj
        have : y = el j := Option.some.inj (hy.symm.trans z1)
        subst this
        by_cases hyp : el j = p
        · exact ⟨.inr (7, [.int (mc + 1), rf d, .int (nI n)]), by rw [hyp]; exact hp1, Or.inr (Or.inr ⟨rfl, Or.inr (Or.inr rfl)⟩)⟩
        · exact ⟨e, by rw [hu_n hyp]; exact z2, z3⟩
      · have hbp : p ≠ b := fun z => by rw [← z, hp1] at hb; cases hb
        have hbv : v ≠ b := fun z => by rw [← z, hv3] at hb; cases hb
        refine pV_to (fs := [.int (mc + 1), rf d, .int (nI n)]) [.int (mc + 1), rf b, .int (nI n)] (by rw [hu_n hbp]; exact hp1) (by decide : 1 < 3) rfl ?_
        have hwb : w b = none := by rw [hu_n (Ne.symm hbp)] at hb; exact hb
        refine last _ b _ g hu_s (by rw [hu_n (Ne.symm hbp), hu_s]) (by omega) (by omega) (fun j hj => by rw [hg j hj]; exact (h6 j hj).1) (by rw [hu_n hvp, hu_n hbv]; exact hv3) (Or.inr hwb) (fun q9 h1 h2 => ?_)
        rw [hu_n h1, hu_n h2, hu_n h1]
    · have hnc : n ≠ c := fun z => hnc (by rw [z]; rfl)
      exact last _ d c f hp1 q1 (by omega) (by omega) (fun j hj => (h6 j hj).1) hv3 (Or.inl ⟨rfl, q⟩) (fun q9 z1 z2 => hu_n z1)
