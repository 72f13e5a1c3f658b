/-! THE PLAIN LAW, 2: MIX and SEAL on both sides -/
set_option maxRecDepth 100000
def pI (z : Int) : Int32 := Int32.ofInt z
def lI (z : Int) : Int64 := Int64.ofInt z
theorem pI_t {z : Int} (h1 : -2 ^ 31 ≤ z) (h2 : z < 2 ^ 31) : (pI z).toInt = z := Int32.toInt_ofInt_of_le h1 h2
theorem lI_t {z : Int} (h1 : -2 ^ 63 ≤ z) (h2 : z < 2 ^ 63) : (lI z).toInt = z := Int64.toInt_ofInt_of_le h1 h2
theorem pI_of (x : Int32) : pI x.toInt = x := Int32.ofInt_toInt x
theorem pI_n (n : Nat) : pI (n : Int) = nI n := Int32.ofInt_eq_ofNat
theorem lI_add (a b : Int) : lI a + lI b = lI (a + b) := (Int64.ofInt_add a b).symm
theorem lI_mul (a b : Int) : lI a * lI b = lI (a * b) := (Int64.ofInt_mul a b).symm
theorem pI_add (a b : Int) : pI a + pI b = pI (a + b) := (Int32.ofInt_add a b).symm
theorem pI_mul (a b : Int) : pI a * pI b = pI (a * b) := (Int32.ofInt_mul a b).symm
theorem pI_l {z : Int} (h1 : -2 ^ 31 ≤ z) (h2 : z < 2 ^ 31) : (pI z).toInt64 = lI z := Int64.toInt.inj (by rw [Int32.toInt_toInt64, pI_t h1 h2, lI_t (by omega) (by omega)])
theorem i_l (x : Int32) : x.toInt64 = lI x.toInt := by
  have := x.toInt_lt; have := x.le_toInt
  exact Int64.toInt.inj (by rw [Int32.toInt_toInt64, lI_t (by omega) (by omega)])
theorem lI_i {z : Int} (h1 : -2 ^ 31 ≤ z) (h2 : z < 2 ^ 31) : (lI z).toInt32 = pI z := Int32.toInt.inj (by rw [Kit.i32_of_i64 (by rw [lI_t (by omega) (by omega)]; exact h1) (by rw [lI_t (by omega) (by omega)]; exact h2), lI_t (by omega) (by omega), pI_t h1 h2])
theorem lI_rem {z d : Int} (h0 : 0 ≤ z) (h1 : z < 2 ^ 63) (hd0 : 0 < d) (hd : d < 2 ^ 31) : lI z - lI z / lI d * lI d = lI (z % d) := by
  apply Int64.toInt.inj
  have a := Int.emod_nonneg z (b := d) (by omega)
  have b := Int.emod_lt_of_pos z hd0
  rw [Kit.i64_rem, lI_t (by omega) h1, lI_t (by omega) (by omega), lI_t (by omega) (by omega), Int.tmod_eq_emod_of_nonneg h0]
theorem pI_inj {a b : Int} (ha : -2 ^ 31 ≤ a) (ha2 : a < 2 ^ 31) (hb : -2 ^ 31 ≤ b) (hb2 : b < 2 ^ 31) : pI a = pI b ↔ a = b := by
  rw [← Int32.toInt_inj, pI_t ha ha2, pI_t hb hb2]
abbrev Qn : Int := 65521
theorem qm0 (z : Int) : 0 ≤ z % 65521 := Int.emod_nonneg z (by decide)
theorem qm1 (z : Int) : z % 65521 < 65521 := Int.emod_lt_of_pos z (by decide)
theorem xor_sign (x : Int32) : 0 ≤ x ^^^ (65521 : Int32) ↔ 0 ≤ x := by
  have h : ∀ y : Int32, 0 ≤ y ↔ y.toBitVec.msb = false := by
    intro y
    rw [Int32.le_iff_toInt_le, Int32.toInt_zero, ← Int32.toInt_toBitVec, BitVec.msb_eq_toInt]
    simp
  rw [h, h, Int32.toBitVec_xor, BitVec.msb_xor]
  have : (65521 : Int32).toBitVec.msb = false := by decide
  rw [this]; simp
theorem C_floorMod {w : Hp} {x : Int32} {K : Hp → Int32 → Prop} (h : K w (pI (x.toInt % 65521))) : wp_J4_floorMod w x (65521 : Int32) K := by
  refine ⟨by decide, ?_⟩
  intro r hr
  have hrt : r.toInt = x.toInt.tmod 65521 := by rw [hr, n3_rem]; rfl
  have q0 := qm0 x.toInt; have q1 := qm1 x.toInt
  have hx1 := x.toInt_lt; have hx2 := x.le_toInt
  refine ⟨fun hc => ?_, fun hc => ?_⟩
  · rw [xor_sign, Int32.le_iff_toInt_le, Int32.toInt_zero] at hc
    have : r = pI (x.toInt % 65521) := Int32.toInt.inj (by rw [hrt, pI_t (by omega) (by omega), Int.tmod_eq_emod_of_nonneg hc])
    rw [this]; exact h
  · rw [xor_sign, Int32.le_iff_toInt_le, Int32.toInt_zero] at hc
    have ht : x.toInt.tmod 65521 = -((-x.toInt) % 65521) := by
      have := Int.neg_tmod (-x.toInt) 65521
      rw [Int.neg_neg] at this
      rw [this, Int.tmod_eq_emod_of_nonneg (by omega)]
    refine ⟨fun h0 => ?_, fun h0 => ?_⟩
    · have h1 : r.toInt = 0 := by rw [h0]; rfl
      have : r = pI (x.toInt % 65521) := Int32.toInt.inj (by rw [pI_t (by omega) (by omega)]; omega)
      rw [this]; exact h
    · have h1 : r.toInt ≠ 0 := fun z => h0 (Int32.toInt.inj (by rw [z]; rfl))
      have : r + 65521 = pI (x.toInt % 65521) := Int32.toInt.inj (by
        have e : (65521 : Int32).toInt = 65521 := rfl
        rw [Kit.i32_add (by rw [e]; omega) (by rw [e]; omega), e, pI_t (by omega) (by omega)]; omega)
      rw [this]; exact h
theorem M_rest {w : Hp} {z : Int} {K : Hp → Int64 → Prop} (h1 : -2 ^ 62 ≤ z) (h2 : z < 2 ^ 62) (h : K w (lI (z % 65521))) : wp_X4_rest w (lI z) K := by
  rintro a ha b hb
  have q0 := qm0 z; have q1 := qm1 z
  have hat : a.toInt = z.tmod 65521 := by rw [ha, Kit.i64_rem, lI_t (by omega) (by omega)]; rfl
  have r1 : -65521 < z.tmod 65521 ∧ z.tmod 65521 < 65521 := by
    rcases Int.le_total 0 z with q | q
    · rw [Int.tmod_eq_emod_of_nonneg q]; omega
    · have := Int.neg_tmod (-z) 65521
      rw [Int.neg_neg] at this
      rw [this, Int.tmod_eq_emod_of_nonneg (by omega)]; omega
  have e : (65521 : Int64).toInt = 65521 := rfl
  have hs : (a + 65521).toInt = z.tmod 65521 + 65521 := by rw [Kit.i64_add (by rw [e]; omega) (by rw [e]; omega), e, hat]
  have : b = lI (z % 65521) := Int64.toInt.inj (by
    rw [hb, Kit.i64_rem_nonneg (by rw [hs]; omega), hs, lI_t (by omega) (by omega), e]
    rcases Int.le_total 0 z with q | q
    · rw [Int.tmod_eq_emod_of_nonneg q]; omega
    · have := Int.neg_tmod (-z) 65521
      rw [Int.neg_neg] at this
      rw [this, Int.tmod_eq_emod_of_nonneg (by omega)]; omega)
  rw [this]; exact h
/-! loops from 0 on -/
theorem lp_for {σ : Type} {step : (σ → Prop) → σ → Prop} (st : Nat → σ) (n : Nat) (h : ∀ i (back : σ → Prop), i ≤ n → (i < n → back (st (i + 1))) → step back (st i)) : lp step (st 0) := by
  have key : ∀ k, k ≤ n → lpN step (k + 1) (st (n - k)) := by
    intro k
    induction k with
    | zero => intro _; exact h n _ (Nat.le_refl _) (fun z => absurd z (Nat.lt_irrefl _))
    | succ k ih =>
      intro hk
      refine h (n - (k + 1)) _ (by omega) (fun _ => ?_)
      have := ih (by omega)
      rw [show n - (k + 1) + 1 = n - k by omega]
      exact this
  exact ⟨n + 1, by have := key n (Nat.le_refl _); rwa [Nat.sub_self] at this⟩
theorem lpN_for {σ : Type} {step : (σ → Prop) → σ → Prop} (st : Nat → σ) (n : Nat) (h : ∀ i (back : σ → Prop), i ≤ n → (i < n → back (st (i + 1))) → step back (st i)) : ∀ N i, i ≤ n → n - i < N → lpN step N (st i) := by
  intro N
  induction N with
  | zero => intro i _ hi; omega
  | succ N ih => intro i hi hN; exact h i _ hi (fun hl => ih (i + 1) (by omega) (by omega))
/-! MIX -/
def mixS (m v : Int) : Int := (31 * m + v + 2) % 65521
def mixZ (l : List Int) : Int := let m := l.foldl mixS 17; if m = 0 then 1 else m
def mixI (l : List Int32) : Int32 := pI (mixZ (l.map Int32.toInt))
def lst (n : Nat) (f : Nat → Int32) : List Int32 := (List.range n).map f
theorem lst_succ (n : Nat) (f : Nat → Int32) : lst (n + 1) f = lst n f ++ [f n] := by simp [lst, List.range_succ]
def mixP (f : Nat → Int32) (i : Nat) : Int := ((lst i f).map Int32.toInt).foldl mixS 17
theorem mixP_succ (f : Nat → Int32) (i : Nat) : mixP f (i + 1) = mixS (mixP f i) (f i).toInt := by simp [mixP, lst_succ, List.foldl_append]
theorem mixP_b (f : Nat → Int32) (i : Nat) : 0 ≤ mixP f i ∧ mixP f i < 65521 := by
  cases i with
  | zero => exact ⟨by show (0 : Int) ≤ 17; decide, by show (17 : Int) < 65521; decide⟩
  | succ i => rw [mixP_succ]; exact ⟨qm0 _, qm1 _⟩
theorem mixZ_b (l : List Int) : 0 < mixZ l ∧ mixZ l < 65521 := by
  have h : 0 ≤ l.foldl mixS 17 ∧ l.foldl mixS 17 < 65521 := by
    rcases List.eq_nil_or_concat l with rfl | ⟨l', x, rfl⟩
    · exact ⟨by decide, by decide⟩
    · rw [List.concat_eq_append, List.foldl_append]
      exact ⟨qm0 _, qm1 _⟩
  unfold mixZ
  simp only []
  split <;> omega
theorem aI_of {w : Hp} {a n i : Nat} {f : Nat → Int32} {c : Int32 → Prop} (hw : w a = some (.inl (0, n, .inl f))) (hi : i < n) (hn : n < 2 ^ 31) (h : c (f i)) : aI w a (nI i) c :=
  ⟨n, f, hw, nI_in hi hn, by rw [nI_clamp (by omega)]; exact h⟩
theorem C_mix {w : Hp} {a n : Nat} {f : Nat → Int32} {K : Hp → Int32 → Prop} (hw : w a = some (.inl (0, n, .inl f))) (hn : n < 100) (hb : ∀ i, i < n → -2 ^ 30 ≤ (f i).toInt ∧ (f i).toInt ≤ 2 ^ 30) (h : K w (mixI (lst n f))) : wp_X1_mix w a K := by
  refine ⟨_, n, _, hw, by decide, ?_⟩
  show lp _ (w, pI (mixP f 0), a, nI n, nI 0)
  refine lp_for (fun i => (w, pI (mixP f i), a, nI n, nI i)) n ?_
  intro i back hi hbk
  have hp := mixP_b f i
  refine ⟨fun hc => ?_, fun hc => ?_⟩
  · rw [nI_leI (by omega) (by omega)] at hc
    have : i = n := by omega
    subst this
    have e : mixI (lst i f) = pI (if mixP f i = 0 then 1 else mixP f i) := rfl
    rw [e] at h
    refine ⟨fun h0 => ?_, fun h0 => ?_⟩
    · have : mixP f i = 0 := by rw [show (0 : Int32) = pI 0 from rfl, pI_inj (by omega) (by omega) (by omega) (by omega)] at h0; exact h0
      rw [if_pos this] at h; exact h
    · have : ¬ mixP f i = 0 := fun z => h0 (by show pI (mixP f i) = 0; rw [z]; rfl)
      rw [if_neg this] at h; exact h
  · rw [nI_leI (by omega) (by omega)] at hc
    have hin : i < n := by omega
    obtain ⟨b1, b2⟩ := hb i hin
    refine aI_of hw hin (by omega) ?_
    refine C_floorMod ?_
    intro _ hy
    subst hy
    have e : ((31 : Int32) * pI (mixP f i) + f i + 2).toInt % 65521 = mixP f (i + 1) := by
      rw [mixP_succ]
      have e1 : (31 : Int32) * pI (mixP f i) + f i + 2 = pI (31 * mixP f i + (f i).toInt + 2) := by
        rw [← pI_add, ← pI_add, ← pI_mul, pI_of]; rfl
      rw [e1, pI_t (by omega) (by omega)]; rfl
    rw [e, nI_1]
    exact hbk hin
theorem M_mix {w : Hp} {a n : Nat} {f : Nat → Int32} {K : Hp → Int32 → Prop} (hw : w a = some (.inl (0, n, .inl f))) (hn : n < 100) (h : K w (mixI (lst n f))) : wp_X4_mix w a K := by
  refine ⟨_, n, _, hw, by decide, ?_⟩
  show lp _ (w, lI (mixP f 0), a, nI n, nI 0)
  refine lp_for (fun i => (w, lI (mixP f i), a, nI n, nI i)) n ?_
  intro i back hi hbk
  have hp := mixP_b f i
  refine ⟨fun hc => ?_, fun hc => ?_⟩
  · rw [nI_leI (by omega) (by omega)] at hc
    have : i = n := by omega
    subst this
    have e : mixI (lst i f) = pI (if mixP f i = 0 then 1 else mixP f i) := rfl
    rw [e] at h
    refine ⟨fun h0 => ?_, fun h0 => ?_⟩
    · have h1 := (lg_cmp_eq _ _).mp h0
      have : mixP f i = 0 := by
        have h2 := congrArg Int64.toInt h1
        rwa [lI_t (by omega) (by omega)] at h2
      rw [if_pos this] at h; exact h
    · have : ¬ mixP f i = 0 := fun z => h0 ((lg_cmp_eq _ _).mpr (by show lI (mixP f i) = 0; rw [z]; rfl))
      rw [if_neg this] at h
      show K w (lI (mixP f i)).toInt32
      rw [lI_i (by omega) (by omega)]; exact h
  · rw [nI_leI (by omega) (by omega)] at hc
    have hin : i < n := by omega
    have b1 := (f i).toInt_lt; have b2 := (f i).le_toInt
    refine aI_of hw hin (by omega) ?_
    have e1 : (31 : Int64) * lI (mixP f i) + (f i).toInt64 + 2 = lI (31 * mixP f i + (f i).toInt + 2) := by
      rw [← lI_add, ← lI_add, ← lI_mul, i_l]; rfl
    show wp_X4_rest w ((31 : Int64) * lI (mixP f i) + (f i).toInt64 + 2) _
    rw [e1]
    refine M_rest (by omega) (by omega) ?_
    intro _ hy
    subst hy
    have e : (31 * mixP f i + (f i).toInt + 2) % 65521 = mixP f (i + 1) := by rw [mixP_succ]; rfl
    rw [e, nI_1]
    exact hbk hin
/-! SEAL -/
def slS (key : Int) (q : Int × Int) (v : Int) : Int × Int := ((q.1 + q.2 * ((v + 2) % 65521)) % 65521, q.2 * key % 65521)
def sealZ (key : Int) (l : List Int) : Int := (l.foldl (slS key) (0, key)).1
def sealI (key : Int32) (l : List Int32) : Int32 := pI (sealZ key.toInt (l.map Int32.toInt))
def slP (key : Int) (f : Nat → Int32) (i : Nat) : Int × Int := ((lst i f).map Int32.toInt).foldl (slS key) (0, key)
theorem slP_succ (key : Int) (f : Nat → Int32) (i : Nat) : slP key f (i + 1) = slS key (slP key f i) (f i).toInt := by simp [slP, lst_succ, List.foldl_append]
theorem slP_b {key : Int} (h0 : 0 ≤ key) (h1 : key < 65521) (f : Nat → Int32) (i : Nat) : (0 ≤ (slP key f i).1 ∧ (slP key f i).1 < 65521) ∧ 0 ≤ (slP key f i).2 ∧ (slP key f i).2 < 65521 := by
  cases i with
  | zero => exact ⟨⟨by show (0 : Int) ≤ 0; decide, by show (0 : Int) < 65521; decide⟩, h0, h1⟩
  | succ i => rw [slP_succ]; exact ⟨⟨qm0 _, qm1 _⟩, qm0 _, qm1 _⟩
theorem prod_b {a b : Int} (ha : 0 ≤ a) (ha1 : a < 65521) (hb : 0 ≤ b) (hb1 : b < 65521) : 0 ≤ a * b ∧ a * b < 2 ^ 33 := by
  have h1 := Int.mul_nonneg ha hb
  have h2 : a * b ≤ 65521 * 65521 := Int.mul_le_mul (by omega) (by omega) hb (by decide)
  omega
theorem sealZ_b {key : Int} (h0 : 0 ≤ key) (h1 : key < 65521) (n : Nat) (f : Nat → Int32) : 0 ≤ sealZ key ((lst n f).map Int32.toInt) ∧ sealZ key ((lst n f).map Int32.toInt) < 65521 := (slP_b h0 h1 f n).1
theorem C_seal {w : Hp} {a n : Nat} {key : Int32} {f : Nat → Int32} {K : Hp → Int32 → Prop} (hw : w a = some (.inl (0, n, .inl f))) (hn : n < 100) (hk0 : 0 ≤ key.toInt) (hk1 : key.toInt < 65521) (hb : ∀ i, i < n → (f i).toInt ≤ 2 ^ 30) (h : K w (sealI key (lst n f))) : wp_X1_sealOf w key a K := by
  intro _ hl
  subst hl
  refine ⟨_, n, _, hw, by decide, ?_⟩
  rw [i_l]
  show lp _ (w, key, lI (slP key.toInt f 0).1, lI (slP key.toInt f 0).2, a, nI n, nI 0)
  refine lp_for (fun i => (w, key, lI (slP key.toInt f i).1, lI (slP key.toInt f i).2, a, nI n, nI i)) n ?_
  intro i back hi hbk
  obtain ⟨⟨p0, p1⟩, p2, p3⟩ := slP_b hk0 hk1 f i
  refine ⟨fun hc => ?_, fun hc => ?_⟩
  · rw [nI_leI (by omega) (by omega)] at hc
    have : i = n := by omega
    subst this
    show K w (lI (slP key.toInt f i).1).toInt32
    rw [lI_i (by omega) (by omega)]; exact h
  · rw [nI_leI (by omega) (by omega)] at hc
    have hin : i < n := by omega
    have b1 := hb i hin; have b2 := (f i).le_toInt
    refine aI_of hw hin (by omega) ?_
    by_cases hov : -2 ^ 31 ≤ (f i).toInt + 2
    · have e0 : (f i + 2).toInt = (f i).toInt + 2 := Kit.i32_add (by have e : (2 : Int32).toInt = 2 := rfl; rw [e]; omega) (by have e : (2 : Int32).toInt = 2 := rfl; rw [e]; omega)
      refine C_floorMod ?_
      have q0 := qm0 ((f i).toInt + 2); have q1 := qm1 ((f i).toInt + 2)
      obtain ⟨m0, m1⟩ := prod_b p2 p3 q0 q1
      obtain ⟨k0, k1⟩ := prod_b p2 p3 hk0 hk1
      rintro _ rfl _ rfl _ rfl
      rw [e0, pI_l (by omega) (by omega), i_l]
      show back (w, key, lI (slP key.toInt f i).1 + lI (slP key.toInt f i).2 * lI (((f i).toInt + 2) % 65521) - (lI (slP key.toInt f i).1 + lI (slP key.toInt f i).2 * lI (((f i).toInt + 2) % 65521)) / lI 65521 * lI 65521, lI (slP key.toInt f i).2 * lI key.toInt - lI (slP key.toInt f i).2 * lI key.toInt / lI 65521 * lI 65521, a, nI n, nI i + 1)
      rw [lI_mul, lI_add, lI_mul, lI_rem (by omega) (by omega) (by decide) (by decide), lI_rem (by omega) (by omega) (by decide) (by decide), nI_1]
      have := hbk hin
      rw [slP_succ] at this
      exact this
    · omega
theorem M_seal {w : Hp} {a n : Nat} {key : Int32} {f : Nat → Int32} {K : Hp → Int32 → Prop} (hw : w a = some (.inl (0, n, .inl f))) (hn : n < 100) (hk0 : 0 ≤ key.toInt) (hk1 : key.toInt < 65521) (h : K w (sealI key (lst n f))) : wp_X4_sealOf w key a K := by
  refine ⟨_, n, _, hw, by decide, ?_⟩
  have hst : ∃ kk : Nat → Int, kk 0 = 1 ∧ ∀ i, (0 ≤ kk i ∧ kk i < 65521) ∧ (kk i * key.toInt) % 65521 = (slP key.toInt f i).2 ∧ kk (i + 1) = (slP key.toInt f i).2 := by
    refine ⟨fun i => match i with | 0 => 1 | i + 1 => (slP key.toInt f i).2, rfl, fun i => ⟨?_, ?_, rfl⟩⟩
    · cases i with
      | zero => exact ⟨by show (0 : Int) ≤ 1; decide, by show (1 : Int) < 65521; decide⟩
      | succ i => exact (slP_b hk0 hk1 f i).2
    · cases i with
      | zero => show 1 * key.toInt % 65521 = key.toInt; omega
      | succ i => rw [slP_succ]; rfl
  obtain ⟨kk, z0, hkk⟩ := hst
  have hz : (1 : Int64) = lI (kk 0) := by rw [z0]; rfl
  rw [hz]
  show lp _ (w, key, lI (slP key.toInt f 0).1, lI (kk 0), a, nI n, nI 0)
  refine lp_for (fun i => (w, key, lI (slP key.toInt f i).1, lI (kk i), a, nI n, nI i)) n ?_
  intro i back hi hbk
  obtain ⟨⟨p0, p1⟩, p2, p3⟩ := slP_b hk0 hk1 f i
  obtain ⟨⟨g0, g1⟩, g2, g3⟩ := hkk i
  refine ⟨fun hc => ?_, fun hc => ?_⟩
  · rw [nI_leI (by omega) (by omega)] at hc
    have : i = n := by omega
    subst this
    show K w (lI (slP key.toInt f i).1).toInt32
    rw [lI_i (by omega) (by omega)]; exact h
  · rw [nI_leI (by omega) (by omega)] at hc
    have hin : i < n := by omega
    have b1 := (f i).toInt_lt; have b2 := (f i).le_toInt
    obtain ⟨k0, k1⟩ := prod_b g0 g1 hk0 hk1
    have q0 := qm0 ((f i).toInt + 2); have q1 := qm1 ((f i).toInt + 2)
    obtain ⟨m0, m1⟩ := prod_b p2 p3 q0 q1
    refine aI_of hw hin (by omega) ?_
    show wp_X4_rest w (lI (kk i) * key.toInt64) _
    rw [i_l, lI_mul]
    refine M_rest (by omega) (by omega) ?_
    rw [g2]
    show wp_X4_rest w ((f i).toInt64 + lI 2) _
    rw [i_l, lI_add]
    refine M_rest (by omega) (by omega) ?_
    show wp_X4_rest w (lI (slP key.toInt f i).1 + lI (slP key.toInt f i).2 * lI (((f i).toInt + 2) % 65521)) _
    rw [lI_mul, lI_add]
    refine M_rest (by omega) (by omega) ?_
    rintro _ rfl
    have := hbk hin
    rw [slP_succ, g3] at this
    rw [nI_1]
    exact this
