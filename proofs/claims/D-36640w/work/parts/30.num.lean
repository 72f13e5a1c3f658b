/-! THE PLAIN LAW, 1: numbers. Both sides' arithmetic, as arithmetic of whole numbers. -/
set_option maxRecDepth 100000
theorem n3_rem (x y : Int32) : (x - x / y * y).toInt = x.toInt.tmod y.toInt := by
  have a := (x % y).toInt_lt; have b := (x % y).le_toInt
  rw [Int32.toInt_mod] at a b
  rw [Int32.toInt_sub, Int32.toInt_mul, Int32.toInt_div, Int.bmod_mul_bmod, Int.sub_bmod_bmod, Int.mul_comm, ← Int.tmod_def]
  exact Kit.bmod32 b a
theorem n3_remN {a d : Nat} (ha : a < 2 ^ 31) (hd : d < 2 ^ 31) : nI a - nI a / nI d * nI d = nI (a % d) := by
  apply Int32.toInt.inj
  have : a % d ≤ a := Nat.mod_le _ _
  rw [n3_rem, nI_toInt ha, nI_toInt hd, nI_toInt (by omega), Int.tmod_eq_emod_of_nonneg (by omega)]
  rfl
theorem n3_remL {a d : Nat} (ha : a < 2 ^ 31) (hd : d < 2 ^ 31) : lN a - lN a / lN d * lN d = lN (a % d) := by
  apply Int64.toInt.inj
  have : a % d ≤ a := Nat.mod_le _ _
  rw [Kit.i64_rem, lN_toInt ha, lN_toInt hd, lN_toInt (by omega), Int.tmod_eq_emod_of_nonneg (by omega)]
  rfl
theorem n3_mul (a b : Nat) : nI a * nI b = nI (a * b) := (Int32.ofNat_mul a b).symm
theorem n3_div2 {a : Nat} (ha : a < 2 ^ 31) : nI a / 2 = nI (a / 2) := by
  apply Int32.toInt.inj
  rw [Kit.i32_div (by rw [nI_toInt ha]; omega), nI_toInt ha, nI_toInt (by omega), show ((2 : Int32).toInt) = 2 from rfl, Int.tdiv_eq_ediv_of_nonneg (by omega)]
  omega
theorem n3_shr1 {a : Nat} (ha : a < 2 ^ 31) : nI a >>> ((1 : Int32) &&& 31) = nI (a / 2) := by
  apply Int32.toInt.inj
  rw [Kit.i32_shr (k := 1) _ _ (by decide), nI_toInt ha, nI_toInt (by omega)]
  omega
theorem n3_and1 {a : Nat} (ha : a < 2 ^ 31) : nI a &&& (1 : Int32) = nI (a % 2) := by
  apply Int32.toInt.inj
  rw [Kit.i32_mask (k := 1) _ _ (by decide) (by decide), nI_toInt ha, nI_toInt (by omega)]
  omega
/-- b to the n-th, by 2039 -/
def pw (b n : Nat) : Nat := b ^ n % 2039
theorem pw_lt (b n : Nat) : pw b n < 2039 := Nat.mod_lt _ (by decide)
theorem pw_step (r s t : Nat) : (r * s ^ t) % 2039 = ((if t % 2 = 1 then r * s % 2039 else r) * (s * s % 2039) ^ (t / 2)) % 2039 := by
  have e : s ^ t = s ^ (t % 2) * (s * s) ^ (t / 2) := by
    rw [← Nat.pow_two, ← Nat.pow_mul, ← Nat.pow_add]
    congr 1
    omega
  rw [e]
  have e2 : ∀ u : Nat, (u * (s * s % 2039) ^ (t / 2)) % 2039 = (u * (s * s) ^ (t / 2)) % 2039 := fun u => by
    rw [Nat.mul_mod, ← Nat.pow_mod, ← Nat.mul_mod]
  split
  · rename_i h
    rw [e2, h, Nat.pow_one, ← Nat.mul_assoc, Nat.mul_mod (r * s % 2039), Nat.mod_mod, ← Nat.mul_mod]
  · rename_i h
    have : t % 2 = 0 := by omega
    rw [e2, this, Nat.pow_zero, Nat.one_mul]
theorem n3_prod {a b : Nat} (ha : a < 2039) (hb : b < 2039) : a * b < 2 ^ 31 := Nat.lt_of_lt_of_le (Nat.mul_lt_mul'' ha hb) (by decide)
theorem C_power {w : Hp} {b n : Nat} {K : Hp → Int32 → Prop} (hb : b < 2 ^ 31) (hn : n < 2 ^ 31) (h : K w (nI (pw b n))) : wp_X1_power w (nI b) (nI n) K := by
  intro y hy
  subst hy
  rw [show (2039 : Int32) = nI 2039 from rfl, n3_remN hb (by decide)]
  refine lp_ind (fun q => ∃ r s t, q = (w, nI r, nI s, nI t) ∧ r < 2039 ∧ s < 2039 ∧ t < 2 ^ 31 ∧ r * s ^ t % 2039 = pw b n) (fun q => q.2.2.2.toNatClampNeg) ?_ _ ⟨1, b % 2039, n, rfl, by decide, Nat.mod_lt _ (by decide), hn, ?_⟩
  · rintro _ back ⟨r, s, t, rfl, hr, hs, ht, hg⟩ hback
    refine ⟨fun hc => ?_, fun hc => ?_⟩
    · rw [show (0 : Int32) = nI 0 from rfl, nI_leI ht (by decide)] at hc
      have : t = 0 := by omega
      subst this
      rw [Nat.pow_zero, Nat.mul_one, Nat.mod_eq_of_lt hr] at hg
      show K w (nI r)
      rw [hg]; exact h
    · rw [show (0 : Int32) = nI 0 from rfl, nI_leI ht (by decide)] at hc
      have hst := pw_step r s t
      rw [hg] at hst
      have tail : ∀ r' : Nat, r' < 2039 → r' * (s * s % 2039) ^ (t / 2) % 2039 = pw b n → wp_X1_power_b32 K (fun w x2 x3 x4 => back (w, x2, x3, x4)) w (nI r') (nI s) (nI t) := by
        intro r' hr' hg'
        rintro _ rfl _ rfl
        rw [show (2039 : Int32) = nI 2039 from rfl, n3_mul, n3_remN (n3_prod hs hs) (by decide), n3_div2 ht]
        refine hback _ ⟨r', _, _, rfl, hr', Nat.mod_lt _ (by decide), by omega, hg'⟩ ?_
        show (nI (t / 2)).toNatClampNeg < (nI t).toNatClampNeg
        rw [nI_clamp (by omega), nI_clamp ht]; omega
      rintro _ rfl
      show br (nI t - nI t / nI 2 * nI 2 = nI 1) _ _
      rw [n3_remN ht (by decide), nI_eq (by omega) (by decide)]
      refine ⟨fun hc2 => ?_, fun hc2 => ?_⟩
      · rw [if_pos hc2] at hst
        rintro _ rfl
        rw [show (2039 : Int32) = nI 2039 from rfl]
        show wp_X1_power_b32 K _ w (nI r * nI s - nI r * nI s / nI 2039 * nI 2039) (nI s) (nI t)
        rw [n3_mul, n3_remN (n3_prod hr hs) (by decide)]
        exact tail _ (Nat.mod_lt _ (by decide)) hst.symm
      · rw [if_neg hc2] at hst
        exact tail _ hr hst.symm
  · rw [Nat.one_mul, ← Nat.pow_mod]; rfl
theorem M_power {w : Hp} {b n : Nat} {K : Hp → Int32 → Prop} (hb : b < 2 ^ 31) (hn : n < 2 ^ 31) (h : K w (nI (pw b n))) : wp_X4_power w (nI b) (nI n) K := by
  intro y hy
  subst hy
  rintro _ rfl
  have hm : b % 2039 < 2039 := Nat.mod_lt _ (by decide)
  rw [show (2039 : Int32) = nI 2039 from rfl, n3_remN hb (by decide), nI_l (by omega)]
  refine lp_ind (fun q => ∃ r s t, q = (w, lN r, lN s, nI t) ∧ r < 2039 ∧ s < 2039 ∧ t < 2 ^ 31 ∧ r * s ^ t % 2039 = pw b n) (fun q => q.2.2.2.toNatClampNeg) ?_ _ ⟨1, b % 2039, n, rfl, by decide, hm, hn, ?_⟩
  · rintro _ back ⟨r, s, t, rfl, hr, hs, ht, hg⟩ hback
    refine ⟨fun hc => ?_, fun hc => ?_⟩
    · rw [show (0 : Int32) = nI 0 from rfl, nI_leI ht (by decide)] at hc
      have : t = 0 := by omega
      subst this
      rw [Nat.pow_zero, Nat.mul_one, Nat.mod_eq_of_lt hr] at hg
      show K w (lN r).toInt32
      rw [lN_i, hg]; exact h
    · rw [show (0 : Int32) = nI 0 from rfl, nI_leI ht (by decide)] at hc
      have hst := pw_step r s t
      rw [hg] at hst
      have tail : ∀ r' : Nat, r' < 2039 → r' * (s * s % 2039) ^ (t / 2) % 2039 = pw b n → wp_X4_power_b35 K (fun w x2 x3 x4 => back (w, x2, x3, x4)) w (lN r') (lN s) (nI t) := by
        intro r' hr' hg'
        rintro _ rfl _ rfl
        rw [show (2039 : Int64) = lN 2039 from rfl, lN_mul, n3_remL (n3_prod hs hs) (by decide), n3_shr1 ht]
        refine hback _ ⟨r', _, _, rfl, hr', Nat.mod_lt _ (by decide), by omega, hg'⟩ ?_
        show (nI (t / 2)).toNatClampNeg < (nI t).toNatClampNeg
        rw [nI_clamp (by omega), nI_clamp ht]; omega
      show br (nI t &&& 1 = nI 1) _ _
      rw [n3_and1 ht, nI_eq (by omega) (by decide)]
      refine ⟨fun hc2 => ?_, fun hc2 => ?_⟩
      · rw [if_pos hc2] at hst
        rintro _ rfl
        show wp_X4_power_b35 K _ w (lN r * lN s - lN r * lN s / lN 2039 * lN 2039) (lN s) (nI t)
        rw [lN_mul, n3_remL (n3_prod hr hs) (by decide)]
        exact tail _ (Nat.mod_lt _ (by decide)) hst.symm
      · rw [if_neg hc2] at hst
        exact tail _ hr hst.symm
  · rw [Nat.one_mul, ← Nat.pow_mod]; rfl
theorem M_open {w : Hp} {n : Nat} {K : Hp → Int32 → Prop} (hn : n < 2 ^ 31) (h : K w (nI (pw 7 n))) : wp_X4_open w (nI n) K := M_power (b := 7) (by decide) hn h
theorem M_both {w : Hp} {b n : Nat} {K : Hp → Int32 → Prop} (hb : b < 2 ^ 31) (hn : n < 2 ^ 31) (h : K w (nI (pw b n))) : wp_X4_both w (nI n) (nI b) K := M_power hb hn h
/-! secrets, names, draws -/
def scr (e : Nat) : Nat := 211 + 307 * e
def nam (e : Nat) : Nat := pw 7 (scr e)
def drw (n : Nat) : Nat := 1 + 577 * n % 1018
theorem scr_e (e : Nat) : (211 : Int32) + 307 * nI e = nI (scr e) := by
  show nI 211 + nI 307 * nI e = _
  rw [n3_mul, nI_add]; rfl
theorem C_secretOf {w : Hp} {e : Nat} {K : Hp → Int32 → Prop} (h : K w (nI (scr e))) : wp_X1_secretOf w (nI e) K := by
  show K w _; rw [scr_e]; exact h
theorem M_secretOf {w : Hp} {e : Nat} {K : Hp → Int32 → Prop} (h : K w (nI (scr e))) : wp_X4_secretOf w (nI e) K := by
  show K w _; rw [scr_e]; exact h
theorem C_publicNumber {w : Hp} {e : Nat} {K : Hp → Int32 → Prop} (he : e < 1000) (h : K w (nI (nam e))) : wp_X1_publicNumber w (nI e) K :=
  C_secretOf (C_power (b := 7) (by decide) (by unfold scr; omega) h)
theorem M_nameOf {w : Hp} {e : Nat} {K : Hp → Int32 → Prop} (he : e < 1000) (h : K w (nI (nam e))) : wp_X4_nameOf w (nI e) K :=
  M_secretOf (M_open (by unfold scr; omega) h)
theorem drw_e {n : Nat} (hn : n < 1000000) : ∀ l : Int64, l = (577 : Int64) * (nI n).toInt64 - (577 : Int64) * (nI n).toInt64 / (1018 : Int64) * (1018 : Int64) → (1 : Int32) + l.toInt32 = nI (drw n) := by
  rintro _ rfl
  rw [nI_l (by omega)]
  show nI 1 + Int64.toInt32 (lN 577 * lN n - lN 577 * lN n / lN 1018 * lN 1018) = _
  rw [lN_mul, n3_remL (by omega) (by decide), lN_i, nI_add]; rfl
theorem C_drawn {w : Hp} {n : Nat} {K : Hp → Int32 → Prop} (hn : n < 1000000) (h : K w (nI (drw n))) : wp_X1_drawn w (nI n) K := by
  intro l hl; rw [drw_e hn l hl]; exact h
theorem M_fresh {w : Hp} {n : Nat} {K : Hp → Int32 → Prop} (hn : n < 1000000) (h : K w (nI (drw n))) : wp_X4_fresh w (nI n) K := by
  intro l hl; rw [drw_e hn l hl]; exact h
theorem drw_lt (n : Nat) : drw n < 1019 := by unfold drw; omega
theorem drw_pos (n : Nat) : 0 < drw n := by unfold drw; omega
