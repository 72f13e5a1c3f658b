/-! THE PLAIN LAW, 22: what the methods do, on the abstract state (printed by gen/mkfun.py) -/
set_option maxRecDepth 100000
def bd (x : Int32) : Prop := -2 ^ 30 ≤ x.toInt ∧ x.toInt ≤ 2 ^ 30
def ky (x : Int32) : Prop := 0 < x.toInt ∧ x.toInt < 65521
theorem ky_bd {x : Int32} (h : ky x) : bd x := ⟨by have := h.1; omega, by have := h.2; omega⟩
theorem bd_nI {n : Nat} (h : n ≤ 2 ^ 30) : bd (nI n) := by
  have e : (nI n).toInt = (n : Int) := nI_toInt (by omega)
  unfold bd; rw [e]; omega
theorem bd_pw (b n : Nat) : bd (nI (pw b n)) := bd_nI (by have := pw_lt b n; omega)
theorem bd_nam (e : Nat) : bd (nI (nam e)) := bd_pw _ _
theorem ky_mix (l : List Int32) : ky (mixI l) := by
  obtain ⟨h1, h2⟩ := mixZ_b (l.map Int32.toInt)
  have e : (mixI l).toInt = mixZ (l.map Int32.toInt) := pI_t (by omega) (by omega)
  unfold ky; rw [e]; exact ⟨h1, h2⟩
theorem bd_mix (l : List Int32) : bd (mixI l) := ky_bd (ky_mix l)
theorem bd_l0 : bd (0 : Int32) := ⟨by decide, by decide⟩
theorem bd_l1 : bd (1 : Int32) := ⟨by decide, by decide⟩
theorem bd_l2 : bd (2 : Int32) := ⟨by decide, by decide⟩
theorem bd_l3 : bd (3 : Int32) := ⟨by decide, by decide⟩
theorem bd_l4 : bd (4 : Int32) := ⟨by decide, by decide⟩
theorem bd_l5 : bd (5 : Int32) := ⟨by decide, by decide⟩
theorem bd_l6 : bd (6 : Int32) := ⟨by decide, by decide⟩
theorem bd_ln : bd (-1 : Int32) := ⟨by decide, by decide⟩
theorem pw_31 (b n : Nat) : pw b n < 2 ^ 31 := Nat.lt_trans (pw_lt _ _) (by decide)
theorem nam_31 (e : Nat) : nam e < 2 ^ 31 := pw_31 _ _
theorem drw_31 (n : Nat) : drw n < 2 ^ 31 := Nat.lt_trans (drw_lt _) (by decide)
theorem scr_31 {e : Nat} (h : e < 1000) : scr e < 2 ^ 31 := by unfold scr; omega
def fn (l : List Int32) : Nat → Int32 := fun j => l.getD j 0
theorem lst_fn (l : List Int32) : lst l.length (fn l) = l := by
  unfold lst fn
  refine List.ext_getElem (by simp) (fun i h1 h2 => ?_)
  simp [List.getD, h2]
theorem seal_b {key : Int32} (hk : ky key) (l : List Int32) : 0 ≤ (sealI key l).toInt ∧ (sealI key l).toInt < 65521 := by
  obtain ⟨h1, h2⟩ := sealZ_b (key := key.toInt) (by have := hk.1; omega) hk.2 l.length (fn l)
  rw [lst_fn] at h1 h2
  have e : (sealI key l).toInt = sealZ key.toInt (l.map Int32.toInt) := pI_t (by omega) (by omega)
  rw [e]; exact ⟨h1, h2⟩
theorem bd_seal {key : Int32} (hk : ky key) (l : List Int32) : bd (sealI key l) := by
  obtain ⟨h1, h2⟩ := seal_b hk l
  exact ⟨by omega, by omega⟩
theorem fn_lst (n : Nat) (f : Nat → Int32) : (fun j => if j < n then f j else 0) = fn (lst n f) := by
  funext j
  unfold fn lst
  by_cases hj : j < n
  · simp [List.getD, hj]
  · simp [List.getD, hj]
def mkL (x fr kind key : Int32) (l : List Int32) : Let := Let.mk fr x kind key (fn l) (fn l) (-1)
theorem postL_mk (x fr kind key : Int32) (n : Nat) (f : Nat → Int32) : postL x fr kind key n f = mkL x fr kind key (lst n f) := by
  unfold postL mkL
  rw [fn_lst]
def putS (c : Sg) (a : Nat) (x kind key : Int32) (l : List Int32) : Sg := postC c (mkL x (c.addr a) kind key l)
def mxI (x y : Int32) : Int32 := if x < y then y else x
def usB (now : Int32) (z : Option Ses) : Bool := match z with | none => false | some y => decide (now - y.made < 30 ∧ y.sl < 40)
def frB (now : Int32) (z : Option Fl) : Bool := match z with | none => false | some y => decide (now - y.at_ < 5)
def hcB (now ck at_ : Int32) : Bool := decide (ck ≠ -1 ∧ now - at_ < 60)
theorem usB_iff {now : Int32} {z : Option Ses} : usB now z = true ↔ usb now z := by
  cases z with
  | none => exact ⟨fun q => (by cases q), fun ⟨y, q, _⟩ => (by cases q)⟩
  | some y => exact ⟨fun q => ⟨y, rfl, (of_decide_eq_true q).1, (of_decide_eq_true q).2⟩, fun ⟨y', q, q1, q2⟩ => by cases q; exact decide_eq_true ⟨q1, q2⟩⟩
theorem frB_iff {now : Int32} {z : Option Fl} : frB now z = true ↔ frs now z := by
  cases z with
  | none => exact ⟨fun q => (by cases q), fun ⟨y, q, _⟩ => (by cases q)⟩
  | some y => exact ⟨fun q => ⟨y, rfl, of_decide_eq_true q⟩, fun ⟨y', q, q1⟩ => by cases q; exact decide_eq_true q1⟩
theorem hcB_iff {now ck at_ : Int32} : hcB now ck at_ = true ↔ hck now ck at_ := decide_eq_true_iff
/-- a DATA letter is sent by the current session -/
def dataS (c : Sg) (a b : Nat) (x y l : Int32) : Sg := match c.se a b 1 with
  | none => c
  | some z => (putS c a (c.kn a b) 4 z.snd_ [z.oth, z.sl, x, y, l, sealI z.snd_ [4, z.oth, z.sl, x, y, l]]).s_se (upd3 c.se a b 1 (some (z.s_sl (z.sl + 1))))
def keyH (a b n : Nat) : Int32 := mixI [1, nI (pw (nam b) (drw n)), nI (pw (nam b) (scr a))]
def stpH (c : Sg) (a b : Nat) : Int32 := mxI (4 * c.now) (c.stS a b + 1)
def tagH (c : Sg) (a b n : Nat) : Int32 := sealI (keyH a b n) [1, nI n, nI (pw 7 (drw n)), nI (10 * a + b), stpH c a b]
def prfH (c : Sg) (a b : Nat) (tag : Int32) : Int32 := if hcB c.now (c.ck a b) (c.ckAt a b) = true then mixI [2, c.ck a b, tag] else 0
/-- a HELLO is sent -/
def helS (c : Sg) (a b : Nat) : Sg :=
  ((putS (c.s_made (c.made + 1)) a (c.kn a b) 1 (keyH a b (c.made + 1)) [nI (c.made + 1), nI (pw 7 (drw (c.made + 1))), nI (10 * a + b), stpH c a b, tagH c a b (c.made + 1), prfH c a b (tagH c a b (c.made + 1))]).s_stS (upd2 c.stS a b (stpH c a b))).s_fl (upd2 c.fl a b (some (Fl.mk (nI (c.made + 1)) (nI (drw (c.made + 1))) (keyH a b (c.made + 1)) (tagH c a b (c.made + 1)) c.now)))
def fstS (c : Sg) (a b : Nat) : Sg := (c.s_nw (upd2 c.nw a b (c.nw a b - 1))).s_wt (shW c.wt a b)
def addW (c : Sg) (a b : Nat) (p : Pk) : Sg := (c.s_nw (upd2 c.nw a b (c.nw a b + 1))).s_wt (upd3 c.wt a b (c.nw a b) p)
def waiS (c : Sg) (a b : Nat) (p : Pk) : Sg := addW (if c.nw a b = 4 then fstS c a b else c) a b p
/-- what waits is sent, as long as it goes -/
def fluS (a b : Nat) : Nat → Sg → Sg
  | 0, c => c
  | n + 1, c => if 0 < c.nw a b ∧ usB c.now (c.se a b 1) = true then fluS a b n (dataS (fstS c a b) a b (c.wt a b 0).src (c.wt a b 0).dst (c.wt a b 0).ld) else c
theorem y_nm {α : Type} {e : α} {k : α → Prop} (h : k e) : nm e k := fun _ z => by rw [z]; exact h
theorem y_br1 {p X Y : Prop} (hp : p) (h : X) : br p X Y := ⟨fun _ => h, fun q => absurd hp q⟩
theorem y_br0 {p X Y : Prop} (hp : ¬ p) (h : Y) : br p X Y := ⟨fun q => absurd q hp, fun _ => h⟩
theorem y_usable {A ad : Ro → Nat} {c m : Sg} {ow : Nat → Bool} {th : Int32} {sm o : Int64} {w : Hp} {J : List (Nat × hE)} (h : RJ A ad c m ow th sm o w J) {a b k : Nat} (ha : a < 3) (hb : b < 3) (hk : k < 3) {K : Hp → Int32 → Prop} (h1 : usB c.now (c.se a b k) = true → K w 1) (h0 : usB c.now (c.se a b k) = false → K w 0) : wp_X1_isUsable w (A c_top) (oS (c.se a b k) (ad (c_se a b k))) K := by
  rw [h.a (r := c_top) rfl]
  exact C_isUsable h.1 ha hb hk (fun q => h1 (usB_iff.mpr q)) (fun q => h0 (by cases e : usB c.now (c.se a b k) with | false => rfl | true => exact absurd (usB_iff.mp e) q))
theorem y_fresh {A ad : Ro → Nat} {c m : Sg} {ow : Nat → Bool} {th : Int32} {sm o : Int64} {w : Hp} {J : List (Nat × hE)} (h : RJ A ad c m ow th sm o w J) {a b : Nat} (ha : a < 3) (hb : b < 3) {K : Hp → Int32 → Prop} (h1 : frB c.now (c.fl a b) = true → K w 1) (h0 : frB c.now (c.fl a b) = false → K w 0) : wp_X1_isFresh w (A c_top) (A (c_sd a b)) K := by
  rw [h.a (r := c_top) rfl, h.a (r := c_sd a b) rfl]
  exact C_isFresh h.1 ha hb (fun q => h1 (frB_iff.mpr q)) (fun q => h0 (by cases e : frB c.now (c.fl a b) with | false => rfl | true => exact absurd (frB_iff.mp e) q))
theorem y_cookie {A ad : Ro → Nat} {c m : Sg} {ow : Nat → Bool} {th : Int32} {sm o : Int64} {w : Hp} {J : List (Nat × hE)} (h : RJ A ad c m ow th sm o w J) {a b : Nat} (ha : a < 3) (hb : b < 3) {K : Hp → Int32 → Prop} (h1 : hcB c.now (c.ck a b) (c.ckAt a b) = true → K w 1) (h0 : hcB c.now (c.ck a b) (c.ckAt a b) = false → K w 0) : wp_X1_hasCookie w (A c_top) (A (c_sd a b)) K := by
  rw [h.a (r := c_top) rfl, h.a (r := c_sd a b) rfl]
  exact C_hasCookie h.1 ha hb (fun q => h1 (hcB_iff.mpr q)) (fun q => h0 (by cases e : hcB c.now (c.ck a b) (c.ckAt a b) with | false => rfl | true => exact absurd (hcB_iff.mp e) q))
theorem y_age {A ad : Ro → Nat} {c m : Sg} {ow : Nat → Bool} {th : Int32} {sm o : Int64} {w : Hp} {J : List (Nat × hE)} (h : RJ A ad c m ow th sm o w J) {a b k : Nat} (ha : a < 3) (hb : b < 3) (hk : k < 3) {z : Ses} (hz : c.se a b k = some z) {K : Hp → Int32 → Prop} (k9 : K w (c.now - z.made)) : wp_X1_age w (A c_top) (ad (c_se a b k)) K := by
  rw [h.a (r := c_top) rfl]
  exact C_age h.1 ha hb hk hz k9
theorem y_pow {w : Hp} {x y : Int32} (b n : Nat) (hx : x = nI b) (hy : y = nI n) (hb : b < 2 ^ 31) (hn : n < 2 ^ 31) {K : Hp → Int32 → Prop} (k : K w (nI (pw b n))) : wp_X1_power w x y K := by subst hx; subst hy; exact C_power hb hn k
theorem y_pow7 {w : Hp} {y : Int32} (n : Nat) (hy : y = nI n) (hn : n < 2 ^ 31) {K : Hp → Int32 → Prop} (k : K w (nI (pw 7 n))) : wp_X1_power w (7 : Int32) y K := by subst hy; exact C_power (b := 7) (by decide) hn k
theorem y_mpow {w : Hp} {x y : Int32} (b n : Nat) (hx : x = nI b) (hy : y = nI n) (hb : b < 2 ^ 31) (hn : n < 2 ^ 31) {K : Hp → Int32 → Prop} (k : K w (nI (pw b n))) : wp_X4_both w y x K := by subst hx; subst hy; exact M_both hb hn k
theorem y_max {w : Hp} {x y : Int32} {K : Hp → Int32 → Prop} (k : K w (mxI x y)) : wp_J4_max w x y K := ⟨fun q => by have e : mxI x y = y := if_pos q; rw [e] at k; exact k, fun q => by have e : mxI x y = x := if_neg q; rw [e] at k; exact k⟩
theorem y_mix3 {A ad : Ro → Nat} {c m : Sg} {ow : Nat → Bool} {th : Int32} {sm o : Int64} {w : Hp} {J : List (Nat × hE)} {b : Nat} {x0 x1 x2 : Int32} (h : RJ A ad c m ow th sm o w ((b, aE 0 3 (upd (upd (upd (fun _ => 0) 0 x0) 1 x1) 2 x2)) :: J)) (b0 : bd x0) (b1 : bd x1) (b2 : bd x2) {K : Hp → Int32 → Prop} (k : RJ A ad c m ow th sm o w J → K w (mixI [x0, x1, x2])) : wp_X1_mix w b K := C_mix (f := (upd (upd (upd (fun _ => 0) 0 x0) 1 x1) 2 x2)) h.j0 (by decide) (by
    intro i hi
    match i, hi with
    | 0, _ => exact b0
    | 1, _ => exact b1
    | 2, _ => exact b2
    | n + 3, hi => exact absurd hi (by omega)) (k h.tail)
theorem y_mmix3 {A ad : Ro → Nat} {c m : Sg} {ow : Nat → Bool} {th : Int32} {sm o : Int64} {w : Hp} {J : List (Nat × hE)} {b : Nat} {x0 x1 x2 : Int32} (h : RJ A ad c m ow th sm o w ((b, aE 0 3 (upd (upd (upd (fun _ => 0) 0 x0) 1 x1) 2 x2)) :: J)) {K : Hp → Int32 → Prop} (k : RJ A ad c m ow th sm o w J → K w (mixI [x0, x1, x2])) : wp_X4_mix w b K := M_mix (f := (upd (upd (upd (fun _ => 0) 0 x0) 1 x1) 2 x2)) h.j0 (by decide) (k h.tail)
theorem y_seal3 {A ad : Ro → Nat} {c m : Sg} {ow : Nat → Bool} {th : Int32} {sm o : Int64} {w : Hp} {J : List (Nat × hE)} {b : Nat} {x0 x1 x2 : Int32} {key : Int32} (h : RJ A ad c m ow th sm o w ((b, aE 0 3 (upd (upd (upd (fun _ => 0) 0 x0) 1 x1) 2 x2)) :: J)) (hk : ky key) (b0 : bd x0) (b1 : bd x1) (b2 : bd x2) {K : Hp → Int32 → Prop} (k : RJ A ad c m ow th sm o w J → K w (sealI key [x0, x1, x2])) : wp_X1_sealOf w key b K := C_seal (f := (upd (upd (upd (fun _ => 0) 0 x0) 1 x1) 2 x2)) h.j0 (by decide) (Int.le_of_lt hk.1) hk.2 (by
    intro i hi
    match i, hi with
    | 0, _ => exact b0.2
    | 1, _ => exact b1.2
    | 2, _ => exact b2.2
    | n + 3, hi => exact absurd hi (by omega)) (k h.tail)
theorem y_mseal3 {A ad : Ro → Nat} {c m : Sg} {ow : Nat → Bool} {th : Int32} {sm o : Int64} {w : Hp} {J : List (Nat × hE)} {b : Nat} {x0 x1 x2 : Int32} {key : Int32} (h : RJ A ad c m ow th sm o w ((b, aE 0 3 (upd (upd (upd (fun _ => 0) 0 x0) 1 x1) 2 x2)) :: J)) (hk : ky key) {K : Hp → Int32 → Prop} (k : RJ A ad c m ow th sm o w J → K w (sealI key [x0, x1, x2])) : wp_X4_sealOf w key b K := M_seal (f := (upd (upd (upd (fun _ => 0) 0 x0) 1 x1) 2 x2)) h.j0 (by decide) (Int.le_of_lt hk.1) hk.2 (k h.tail)
theorem y_post3 {A ad : Ro → Nat} {c m : Sg} {ow : Nat → Bool} {th : Int32} {sm o : Int64} {w : Hp} {J : List (Nat × hE)} {b : Nat} {x0 x1 x2 : Int32} (h : RJ A ad c m ow th sm o w ((b, aE 0 3 (upd (upd (upd (fun _ => 0) 0 x0) 1 x1) 2 x2)) :: J)) {a : Nat} (ha : a < 3) (h60 : c.nl ≤ 60) {x kind key : Int32} {K : Hp → Prop} (k : ∀ w ad' ow', RJ A ad' (putS c a x kind key [x0, x1, x2]) m ow' th sm o w J → (∀ u v j, ad' (c_se u v j) = ad (c_se u v j)) → K w) : wp_X1_post w (A c_top) (nI a) x kind key b K := by
  rw [h.a (r := c_top) rfl]
  refine C_post h.1 ha (f := (upd (upd (upd (fun _ => 0) 0 x0) 1 x1) 2 x2)) h.j0 (by decide) h60 (fun w' ad' ow' hR _ _ hse hJ => ?_)
  rw [postL_mk] at hR hJ
  exact k w' ad' ow' (h.tail.jk hR hJ) hse
theorem y_mix4 {A ad : Ro → Nat} {c m : Sg} {ow : Nat → Bool} {th : Int32} {sm o : Int64} {w : Hp} {J : List (Nat × hE)} {b : Nat} {x0 x1 x2 x3 : Int32} (h : RJ A ad c m ow th sm o w ((b, aE 0 4 (upd (upd (upd (upd (fun _ => 0) 0 x0) 1 x1) 2 x2) 3 x3)) :: J)) (b0 : bd x0) (b1 : bd x1) (b2 : bd x2) (b3 : bd x3) {K : Hp → Int32 → Prop} (k : RJ A ad c m ow th sm o w J → K w (mixI [x0, x1, x2, x3])) : wp_X1_mix w b K := C_mix (f := (upd (upd (upd (upd (fun _ => 0) 0 x0) 1 x1) 2 x2) 3 x3)) h.j0 (by decide) (by
    intro i hi
    match i, hi with
    | 0, _ => exact b0
    | 1, _ => exact b1
    | 2, _ => exact b2
    | 3, _ => exact b3
    | n + 4, hi => exact absurd hi (by omega)) (k h.tail)
theorem y_mmix4 {A ad : Ro → Nat} {c m : Sg} {ow : Nat → Bool} {th : Int32} {sm o : Int64} {w : Hp} {J : List (Nat × hE)} {b : Nat} {x0 x1 x2 x3 : Int32} (h : RJ A ad c m ow th sm o w ((b, aE 0 4 (upd (upd (upd (upd (fun _ => 0) 0 x0) 1 x1) 2 x2) 3 x3)) :: J)) {K : Hp → Int32 → Prop} (k : RJ A ad c m ow th sm o w J → K w (mixI [x0, x1, x2, x3])) : wp_X4_mix w b K := M_mix (f := (upd (upd (upd (upd (fun _ => 0) 0 x0) 1 x1) 2 x2) 3 x3)) h.j0 (by decide) (k h.tail)
theorem y_seal4 {A ad : Ro → Nat} {c m : Sg} {ow : Nat → Bool} {th : Int32} {sm o : Int64} {w : Hp} {J : List (Nat × hE)} {b : Nat} {x0 x1 x2 x3 : Int32} {key : Int32} (h : RJ A ad c m ow th sm o w ((b, aE 0 4 (upd (upd (upd (upd (fun _ => 0) 0 x0) 1 x1) 2 x2) 3 x3)) :: J)) (hk : ky key) (b0 : bd x0) (b1 : bd x1) (b2 : bd x2) (b3 : bd x3) {K : Hp → Int32 → Prop} (k : RJ A ad c m ow th sm o w J → K w (sealI key [x0, x1, x2, x3])) : wp_X1_sealOf w key b K := C_seal (f := (upd (upd (upd (upd (fun _ => 0) 0 x0) 1 x1) 2 x2) 3 x3)) h.j0 (by decide) (Int.le_of_lt hk.1) hk.2 (by
    intro i hi
    match i, hi with
    | 0, _ => exact b0.2
    | 1, _ => exact b1.2
    | 2, _ => exact b2.2
    | 3, _ => exact b3.2
    | n + 4, hi => exact absurd hi (by omega)) (k h.tail)
theorem y_mseal4 {A ad : Ro → Nat} {c m : Sg} {ow : Nat → Bool} {th : Int32} {sm o : Int64} {w : Hp} {J : List (Nat × hE)} {b : Nat} {x0 x1 x2 x3 : Int32} {key : Int32} (h : RJ A ad c m ow th sm o w ((b, aE 0 4 (upd (upd (upd (upd (fun _ => 0) 0 x0) 1 x1) 2 x2) 3 x3)) :: J)) (hk : ky key) {K : Hp → Int32 → Prop} (k : RJ A ad c m ow th sm o w J → K w (sealI key [x0, x1, x2, x3])) : wp_X4_sealOf w key b K := M_seal (f := (upd (upd (upd (upd (fun _ => 0) 0 x0) 1 x1) 2 x2) 3 x3)) h.j0 (by decide) (Int.le_of_lt hk.1) hk.2 (k h.tail)
theorem y_post4 {A ad : Ro → Nat} {c m : Sg} {ow : Nat → Bool} {th : Int32} {sm o : Int64} {w : Hp} {J : List (Nat × hE)} {b : Nat} {x0 x1 x2 x3 : Int32} (h : RJ A ad c m ow th sm o w ((b, aE 0 4 (upd (upd (upd (upd (fun _ => 0) 0 x0) 1 x1) 2 x2) 3 x3)) :: J)) {a : Nat} (ha : a < 3) (h60 : c.nl ≤ 60) {x kind key : Int32} {K : Hp → Prop} (k : ∀ w ad' ow', RJ A ad' (putS c a x kind key [x0, x1, x2, x3]) m ow' th sm o w J → (∀ u v j, ad' (c_se u v j) = ad (c_se u v j)) → K w) : wp_X1_post w (A c_top) (nI a) x kind key b K := by
  rw [h.a (r := c_top) rfl]
  refine C_post h.1 ha (f := (upd (upd (upd (upd (fun _ => 0) 0 x0) 1 x1) 2 x2) 3 x3)) h.j0 (by decide) h60 (fun w' ad' ow' hR _ _ hse hJ => ?_)
  rw [postL_mk] at hR hJ
  exact k w' ad' ow' (h.tail.jk hR hJ) hse
theorem y_seal5 {A ad : Ro → Nat} {c m : Sg} {ow : Nat → Bool} {th : Int32} {sm o : Int64} {w : Hp} {J : List (Nat × hE)} {b : Nat} {x0 x1 x2 x3 x4 : Int32} {key : Int32} (h : RJ A ad c m ow th sm o w ((b, aE 0 5 (upd (upd (upd (upd (upd (fun _ => 0) 0 x0) 1 x1) 2 x2) 3 x3) 4 x4)) :: J)) (hk : ky key) (b0 : bd x0) (b1 : bd x1) (b2 : bd x2) (b3 : bd x3) (b4 : bd x4) {K : Hp → Int32 → Prop} (k : RJ A ad c m ow th sm o w J → K w (sealI key [x0, x1, x2, x3, x4])) : wp_X1_sealOf w key b K := C_seal (f := (upd (upd (upd (upd (upd (fun _ => 0) 0 x0) 1 x1) 2 x2) 3 x3) 4 x4)) h.j0 (by decide) (Int.le_of_lt hk.1) hk.2 (by
    intro i hi
    match i, hi with
    | 0, _ => exact b0.2
    | 1, _ => exact b1.2
    | 2, _ => exact b2.2
    | 3, _ => exact b3.2
    | 4, _ => exact b4.2
    | n + 5, hi => exact absurd hi (by omega)) (k h.tail)
theorem y_mseal5 {A ad : Ro → Nat} {c m : Sg} {ow : Nat → Bool} {th : Int32} {sm o : Int64} {w : Hp} {J : List (Nat × hE)} {b : Nat} {x0 x1 x2 x3 x4 : Int32} {key : Int32} (h : RJ A ad c m ow th sm o w ((b, aE 0 5 (upd (upd (upd (upd (upd (fun _ => 0) 0 x0) 1 x1) 2 x2) 3 x3) 4 x4)) :: J)) (hk : ky key) {K : Hp → Int32 → Prop} (k : RJ A ad c m ow th sm o w J → K w (sealI key [x0, x1, x2, x3, x4])) : wp_X4_sealOf w key b K := M_seal (f := (upd (upd (upd (upd (upd (fun _ => 0) 0 x0) 1 x1) 2 x2) 3 x3) 4 x4)) h.j0 (by decide) (Int.le_of_lt hk.1) hk.2 (k h.tail)
theorem y_post5 {A ad : Ro → Nat} {c m : Sg} {ow : Nat → Bool} {th : Int32} {sm o : Int64} {w : Hp} {J : List (Nat × hE)} {b : Nat} {x0 x1 x2 x3 x4 : Int32} (h : RJ A ad c m ow th sm o w ((b, aE 0 5 (upd (upd (upd (upd (upd (fun _ => 0) 0 x0) 1 x1) 2 x2) 3 x3) 4 x4)) :: J)) {a : Nat} (ha : a < 3) (h60 : c.nl ≤ 60) {x kind key : Int32} {K : Hp → Prop} (k : ∀ w ad' ow', RJ A ad' (putS c a x kind key [x0, x1, x2, x3, x4]) m ow' th sm o w J → (∀ u v j, ad' (c_se u v j) = ad (c_se u v j)) → K w) : wp_X1_post w (A c_top) (nI a) x kind key b K := by
  rw [h.a (r := c_top) rfl]
  refine C_post h.1 ha (f := (upd (upd (upd (upd (upd (fun _ => 0) 0 x0) 1 x1) 2 x2) 3 x3) 4 x4)) h.j0 (by decide) h60 (fun w' ad' ow' hR _ _ hse hJ => ?_)
  rw [postL_mk] at hR hJ
  exact k w' ad' ow' (h.tail.jk hR hJ) hse
theorem y_seal6 {A ad : Ro → Nat} {c m : Sg} {ow : Nat → Bool} {th : Int32} {sm o : Int64} {w : Hp} {J : List (Nat × hE)} {b : Nat} {x0 x1 x2 x3 x4 x5 : Int32} {key : Int32} (h : RJ A ad c m ow th sm o w ((b, aE 0 6 (upd (upd (upd (upd (upd (upd (fun _ => 0) 0 x0) 1 x1) 2 x2) 3 x3) 4 x4) 5 x5)) :: J)) (hk : ky key) (b0 : bd x0) (b1 : bd x1) (b2 : bd x2) (b3 : bd x3) (b4 : bd x4) (b5 : bd x5) {K : Hp → Int32 → Prop} (k : RJ A ad c m ow th sm o w J → K w (sealI key [x0, x1, x2, x3, x4, x5])) : wp_X1_sealOf w key b K := C_seal (f := (upd (upd (upd (upd (upd (upd (fun _ => 0) 0 x0) 1 x1) 2 x2) 3 x3) 4 x4) 5 x5)) h.j0 (by decide) (Int.le_of_lt hk.1) hk.2 (by
    intro i hi
    match i, hi with
    | 0, _ => exact b0.2
    | 1, _ => exact b1.2
    | 2, _ => exact b2.2
    | 3, _ => exact b3.2
    | 4, _ => exact b4.2
    | 5, _ => exact b5.2
    | n + 6, hi => exact absurd hi (by omega)) (k h.tail)
theorem y_mseal6 {A ad : Ro → Nat} {c m : Sg} {ow : Nat → Bool} {th : Int32} {sm o : Int64} {w : Hp} {J : List (Nat × hE)} {b : Nat} {x0 x1 x2 x3 x4 x5 : Int32} {key : Int32} (h : RJ A ad c m ow th sm o w ((b, aE 0 6 (upd (upd (upd (upd (upd (upd (fun _ => 0) 0 x0) 1 x1) 2 x2) 3 x3) 4 x4) 5 x5)) :: J)) (hk : ky key) {K : Hp → Int32 → Prop} (k : RJ A ad c m ow th sm o w J → K w (sealI key [x0, x1, x2, x3, x4, x5])) : wp_X4_sealOf w key b K := M_seal (f := (upd (upd (upd (upd (upd (upd (fun _ => 0) 0 x0) 1 x1) 2 x2) 3 x3) 4 x4) 5 x5)) h.j0 (by decide) (Int.le_of_lt hk.1) hk.2 (k h.tail)
theorem y_post6 {A ad : Ro → Nat} {c m : Sg} {ow : Nat → Bool} {th : Int32} {sm o : Int64} {w : Hp} {J : List (Nat × hE)} {b : Nat} {x0 x1 x2 x3 x4 x5 : Int32} (h : RJ A ad c m ow th sm o w ((b, aE 0 6 (upd (upd (upd (upd (upd (upd (fun _ => 0) 0 x0) 1 x1) 2 x2) 3 x3) 4 x4) 5 x5)) :: J)) {a : Nat} (ha : a < 3) (h60 : c.nl ≤ 60) {x kind key : Int32} {K : Hp → Prop} (k : ∀ w ad' ow', RJ A ad' (putS c a x kind key [x0, x1, x2, x3, x4, x5]) m ow' th sm o w J → (∀ u v j, ad' (c_se u v j) = ad (c_se u v j)) → K w) : wp_X1_post w (A c_top) (nI a) x kind key b K := by
  rw [h.a (r := c_top) rfl]
  refine C_post h.1 ha (f := (upd (upd (upd (upd (upd (upd (fun _ => 0) 0 x0) 1 x1) 2 x2) 3 x3) 4 x4) 5 x5)) h.j0 (by decide) h60 (fun w' ad' ow' hR _ _ hse hJ => ?_)
  rw [postL_mk] at hR hJ
  exact k w' ad' ow' (h.tail.jk hR hJ) hse
theorem put_now {c : Sg} {a : Nat} {x kind key : Int32} {l : List Int32} : (putS c a x kind key l).now = c.now := by unfold putS postC; split <;> rfl
theorem put_made {c : Sg} {a : Nat} {x kind key : Int32} {l : List Int32} : (putS c a x kind key l).made = c.made := by unfold putS postC; split <;> rfl
theorem put_dlv {c : Sg} {a : Nat} {x kind key : Int32} {l : List Int32} : (putS c a x kind key l).dlv = c.dlv := by unfold putS postC; split <;> rfl
theorem put_addr {c : Sg} {a : Nat} {x kind key : Int32} {l : List Int32} : (putS c a x kind key l).addr = c.addr := by unfold putS postC; split <;> rfl
theorem put_load {c : Sg} {a : Nat} {x kind key : Int32} {l : List Int32} : (putS c a x kind key l).load = c.load := by unfold putS postC; split <;> rfl
theorem put_nr {c : Sg} {a : Nat} {x kind key : Int32} {l : List Int32} : (putS c a x kind key l).nr = c.nr := by unfold putS postC; split <;> rfl
theorem put_rt {c : Sg} {a : Nat} {x kind key : Int32} {l : List Int32} : (putS c a x kind key l).rt = c.rt := by unfold putS postC; split <;> rfl
theorem put_kn {c : Sg} {a : Nat} {x kind key : Int32} {l : List Int32} : (putS c a x kind key l).kn = c.kn := by unfold putS postC; split <;> rfl
theorem put_stT {c : Sg} {a : Nat} {x kind key : Int32} {l : List Int32} : (putS c a x kind key l).stT = c.stT := by unfold putS postC; split <;> rfl
theorem put_stS {c : Sg} {a : Nat} {x kind key : Int32} {l : List Int32} : (putS c a x kind key l).stS = c.stS := by unfold putS postC; split <;> rfl
theorem put_ck {c : Sg} {a : Nat} {x kind key : Int32} {l : List Int32} : (putS c a x kind key l).ck = c.ck := by unfold putS postC; split <;> rfl
theorem put_ckAt {c : Sg} {a : Nat} {x kind key : Int32} {l : List Int32} : (putS c a x kind key l).ckAt = c.ckAt := by unfold putS postC; split <;> rfl
theorem put_fl {c : Sg} {a : Nat} {x kind key : Int32} {l : List Int32} : (putS c a x kind key l).fl = c.fl := by unfold putS postC; split <;> rfl
theorem put_se {c : Sg} {a : Nat} {x kind key : Int32} {l : List Int32} : (putS c a x kind key l).se = c.se := by unfold putS postC; split <;> rfl
theorem put_nw {c : Sg} {a : Nat} {x kind key : Int32} {l : List Int32} : (putS c a x kind key l).nw = c.nw := by unfold putS postC; split <;> rfl
theorem put_wt {c : Sg} {a : Nat} {x kind key : Int32} {l : List Int32} : (putS c a x kind key l).wt = c.wt := by unfold putS postC; split <;> rfl
theorem put_go {c : Sg} {a : Nat} {x kind key : Int32} {l : List Int32} : (putS c a x kind key l).go = c.go := by unfold putS postC; split <;> rfl
theorem put_co {c : Sg} {a : Nat} {x kind key : Int32} {l : List Int32} : (putS c a x kind key l).co = c.co := by unfold putS postC; split <;> rfl
theorem put_nl {c : Sg} {a : Nat} {x kind key : Int32} {l : List Int32} (h : c.nl ≤ 60) : (putS c a x kind key l).nl ≤ 60 := by
  unfold putS postC
  split
  · exact h
  · show c.nl + 1 ≤ 60
    omega
theorem px_now_now (c : Sg) (x : Int32) : (c.s_now x).now = x := rfl
theorem px_now_made (c : Sg) (x : Int32) : (c.s_now x).made = c.made := rfl
theorem px_now_dlv (c : Sg) (x : Int32) : (c.s_now x).dlv = c.dlv := rfl
theorem px_now_addr (c : Sg) (x : Int32) : (c.s_now x).addr = c.addr := rfl
theorem px_now_load (c : Sg) (x : Int32) : (c.s_now x).load = c.load := rfl
theorem px_now_nr (c : Sg) (x : Int32) : (c.s_now x).nr = c.nr := rfl
theorem px_now_rt (c : Sg) (x : Int32) : (c.s_now x).rt = c.rt := rfl
theorem px_now_kn (c : Sg) (x : Int32) : (c.s_now x).kn = c.kn := rfl
theorem px_now_stT (c : Sg) (x : Int32) : (c.s_now x).stT = c.stT := rfl
theorem px_now_stS (c : Sg) (x : Int32) : (c.s_now x).stS = c.stS := rfl
theorem px_now_ck (c : Sg) (x : Int32) : (c.s_now x).ck = c.ck := rfl
theorem px_now_ckAt (c : Sg) (x : Int32) : (c.s_now x).ckAt = c.ckAt := rfl
theorem px_now_fl (c : Sg) (x : Int32) : (c.s_now x).fl = c.fl := rfl
theorem px_now_se (c : Sg) (x : Int32) : (c.s_now x).se = c.se := rfl
theorem px_now_nw (c : Sg) (x : Int32) : (c.s_now x).nw = c.nw := rfl
theorem px_now_wt (c : Sg) (x : Int32) : (c.s_now x).wt = c.wt := rfl
theorem px_now_nl (c : Sg) (x : Int32) : (c.s_now x).nl = c.nl := rfl
theorem px_now_lt (c : Sg) (x : Int32) : (c.s_now x).lt = c.lt := rfl
theorem px_now_go (c : Sg) (x : Int32) : (c.s_now x).go = c.go := rfl
theorem px_now_co (c : Sg) (x : Int32) : (c.s_now x).co = c.co := rfl
theorem px_made_now (c : Sg) (x : Nat) : (c.s_made x).now = c.now := rfl
theorem px_made_made (c : Sg) (x : Nat) : (c.s_made x).made = x := rfl
theorem px_made_dlv (c : Sg) (x : Nat) : (c.s_made x).dlv = c.dlv := rfl
theorem px_made_addr (c : Sg) (x : Nat) : (c.s_made x).addr = c.addr := rfl
theorem px_made_load (c : Sg) (x : Nat) : (c.s_made x).load = c.load := rfl
theorem px_made_nr (c : Sg) (x : Nat) : (c.s_made x).nr = c.nr := rfl
theorem px_made_rt (c : Sg) (x : Nat) : (c.s_made x).rt = c.rt := rfl
theorem px_made_kn (c : Sg) (x : Nat) : (c.s_made x).kn = c.kn := rfl
theorem px_made_stT (c : Sg) (x : Nat) : (c.s_made x).stT = c.stT := rfl
theorem px_made_stS (c : Sg) (x : Nat) : (c.s_made x).stS = c.stS := rfl
theorem px_made_ck (c : Sg) (x : Nat) : (c.s_made x).ck = c.ck := rfl
theorem px_made_ckAt (c : Sg) (x : Nat) : (c.s_made x).ckAt = c.ckAt := rfl
theorem px_made_fl (c : Sg) (x : Nat) : (c.s_made x).fl = c.fl := rfl
theorem px_made_se (c : Sg) (x : Nat) : (c.s_made x).se = c.se := rfl
theorem px_made_nw (c : Sg) (x : Nat) : (c.s_made x).nw = c.nw := rfl
theorem px_made_wt (c : Sg) (x : Nat) : (c.s_made x).wt = c.wt := rfl
theorem px_made_nl (c : Sg) (x : Nat) : (c.s_made x).nl = c.nl := rfl
theorem px_made_lt (c : Sg) (x : Nat) : (c.s_made x).lt = c.lt := rfl
theorem px_made_go (c : Sg) (x : Nat) : (c.s_made x).go = c.go := rfl
theorem px_made_co (c : Sg) (x : Nat) : (c.s_made x).co = c.co := rfl
theorem px_dlv_now (c : Sg) (x : Int32) : (c.s_dlv x).now = c.now := rfl
theorem px_dlv_made (c : Sg) (x : Int32) : (c.s_dlv x).made = c.made := rfl
theorem px_dlv_dlv (c : Sg) (x : Int32) : (c.s_dlv x).dlv = x := rfl
theorem px_dlv_addr (c : Sg) (x : Int32) : (c.s_dlv x).addr = c.addr := rfl
theorem px_dlv_load (c : Sg) (x : Int32) : (c.s_dlv x).load = c.load := rfl
theorem px_dlv_nr (c : Sg) (x : Int32) : (c.s_dlv x).nr = c.nr := rfl
theorem px_dlv_rt (c : Sg) (x : Int32) : (c.s_dlv x).rt = c.rt := rfl
theorem px_dlv_kn (c : Sg) (x : Int32) : (c.s_dlv x).kn = c.kn := rfl
theorem px_dlv_stT (c : Sg) (x : Int32) : (c.s_dlv x).stT = c.stT := rfl
theorem px_dlv_stS (c : Sg) (x : Int32) : (c.s_dlv x).stS = c.stS := rfl
theorem px_dlv_ck (c : Sg) (x : Int32) : (c.s_dlv x).ck = c.ck := rfl
theorem px_dlv_ckAt (c : Sg) (x : Int32) : (c.s_dlv x).ckAt = c.ckAt := rfl
theorem px_dlv_fl (c : Sg) (x : Int32) : (c.s_dlv x).fl = c.fl := rfl
theorem px_dlv_se (c : Sg) (x : Int32) : (c.s_dlv x).se = c.se := rfl
theorem px_dlv_nw (c : Sg) (x : Int32) : (c.s_dlv x).nw = c.nw := rfl
theorem px_dlv_wt (c : Sg) (x : Int32) : (c.s_dlv x).wt = c.wt := rfl
theorem px_dlv_nl (c : Sg) (x : Int32) : (c.s_dlv x).nl = c.nl := rfl
theorem px_dlv_lt (c : Sg) (x : Int32) : (c.s_dlv x).lt = c.lt := rfl
theorem px_dlv_go (c : Sg) (x : Int32) : (c.s_dlv x).go = c.go := rfl
theorem px_dlv_co (c : Sg) (x : Int32) : (c.s_dlv x).co = c.co := rfl
theorem px_addr_now (c : Sg) (x : Nat → Int32) : (c.s_addr x).now = c.now := rfl
theorem px_addr_made (c : Sg) (x : Nat → Int32) : (c.s_addr x).made = c.made := rfl
theorem px_addr_dlv (c : Sg) (x : Nat → Int32) : (c.s_addr x).dlv = c.dlv := rfl
theorem px_addr_addr (c : Sg) (x : Nat → Int32) : (c.s_addr x).addr = x := rfl
theorem px_addr_load (c : Sg) (x : Nat → Int32) : (c.s_addr x).load = c.load := rfl
theorem px_addr_nr (c : Sg) (x : Nat → Int32) : (c.s_addr x).nr = c.nr := rfl
theorem px_addr_rt (c : Sg) (x : Nat → Int32) : (c.s_addr x).rt = c.rt := rfl
theorem px_addr_kn (c : Sg) (x : Nat → Int32) : (c.s_addr x).kn = c.kn := rfl
theorem px_addr_stT (c : Sg) (x : Nat → Int32) : (c.s_addr x).stT = c.stT := rfl
theorem px_addr_stS (c : Sg) (x : Nat → Int32) : (c.s_addr x).stS = c.stS := rfl
theorem px_addr_ck (c : Sg) (x : Nat → Int32) : (c.s_addr x).ck = c.ck := rfl
theorem px_addr_ckAt (c : Sg) (x : Nat → Int32) : (c.s_addr x).ckAt = c.ckAt := rfl
theorem px_addr_fl (c : Sg) (x : Nat → Int32) : (c.s_addr x).fl = c.fl := rfl
theorem px_addr_se (c : Sg) (x : Nat → Int32) : (c.s_addr x).se = c.se := rfl
theorem px_addr_nw (c : Sg) (x : Nat → Int32) : (c.s_addr x).nw = c.nw := rfl
theorem px_addr_wt (c : Sg) (x : Nat → Int32) : (c.s_addr x).wt = c.wt := rfl
theorem px_addr_nl (c : Sg) (x : Nat → Int32) : (c.s_addr x).nl = c.nl := rfl
theorem px_addr_lt (c : Sg) (x : Nat → Int32) : (c.s_addr x).lt = c.lt := rfl
theorem px_addr_go (c : Sg) (x : Nat → Int32) : (c.s_addr x).go = c.go := rfl
theorem px_addr_co (c : Sg) (x : Nat → Int32) : (c.s_addr x).co = c.co := rfl
theorem px_load_now (c : Sg) (x : Nat → Int32) : (c.s_load x).now = c.now := rfl
theorem px_load_made (c : Sg) (x : Nat → Int32) : (c.s_load x).made = c.made := rfl
theorem px_load_dlv (c : Sg) (x : Nat → Int32) : (c.s_load x).dlv = c.dlv := rfl
theorem px_load_addr (c : Sg) (x : Nat → Int32) : (c.s_load x).addr = c.addr := rfl
theorem px_load_load (c : Sg) (x : Nat → Int32) : (c.s_load x).load = x := rfl
theorem px_load_nr (c : Sg) (x : Nat → Int32) : (c.s_load x).nr = c.nr := rfl
theorem px_load_rt (c : Sg) (x : Nat → Int32) : (c.s_load x).rt = c.rt := rfl
theorem px_load_kn (c : Sg) (x : Nat → Int32) : (c.s_load x).kn = c.kn := rfl
theorem px_load_stT (c : Sg) (x : Nat → Int32) : (c.s_load x).stT = c.stT := rfl
theorem px_load_stS (c : Sg) (x : Nat → Int32) : (c.s_load x).stS = c.stS := rfl
theorem px_load_ck (c : Sg) (x : Nat → Int32) : (c.s_load x).ck = c.ck := rfl
theorem px_load_ckAt (c : Sg) (x : Nat → Int32) : (c.s_load x).ckAt = c.ckAt := rfl
theorem px_load_fl (c : Sg) (x : Nat → Int32) : (c.s_load x).fl = c.fl := rfl
theorem px_load_se (c : Sg) (x : Nat → Int32) : (c.s_load x).se = c.se := rfl
theorem px_load_nw (c : Sg) (x : Nat → Int32) : (c.s_load x).nw = c.nw := rfl
theorem px_load_wt (c : Sg) (x : Nat → Int32) : (c.s_load x).wt = c.wt := rfl
theorem px_load_nl (c : Sg) (x : Nat → Int32) : (c.s_load x).nl = c.nl := rfl
theorem px_load_lt (c : Sg) (x : Nat → Int32) : (c.s_load x).lt = c.lt := rfl
theorem px_load_go (c : Sg) (x : Nat → Int32) : (c.s_load x).go = c.go := rfl
theorem px_load_co (c : Sg) (x : Nat → Int32) : (c.s_load x).co = c.co := rfl
theorem px_nr_now (c : Sg) (x : Nat → Nat) : (c.s_nr x).now = c.now := rfl
theorem px_nr_made (c : Sg) (x : Nat → Nat) : (c.s_nr x).made = c.made := rfl
theorem px_nr_dlv (c : Sg) (x : Nat → Nat) : (c.s_nr x).dlv = c.dlv := rfl
theorem px_nr_addr (c : Sg) (x : Nat → Nat) : (c.s_nr x).addr = c.addr := rfl
theorem px_nr_load (c : Sg) (x : Nat → Nat) : (c.s_nr x).load = c.load := rfl
theorem px_nr_nr (c : Sg) (x : Nat → Nat) : (c.s_nr x).nr = x := rfl
theorem px_nr_rt (c : Sg) (x : Nat → Nat) : (c.s_nr x).rt = c.rt := rfl
theorem px_nr_kn (c : Sg) (x : Nat → Nat) : (c.s_nr x).kn = c.kn := rfl
theorem px_nr_stT (c : Sg) (x : Nat → Nat) : (c.s_nr x).stT = c.stT := rfl
theorem px_nr_stS (c : Sg) (x : Nat → Nat) : (c.s_nr x).stS = c.stS := rfl
theorem px_nr_ck (c : Sg) (x : Nat → Nat) : (c.s_nr x).ck = c.ck := rfl
theorem px_nr_ckAt (c : Sg) (x : Nat → Nat) : (c.s_nr x).ckAt = c.ckAt := rfl
theorem px_nr_fl (c : Sg) (x : Nat → Nat) : (c.s_nr x).fl = c.fl := rfl
theorem px_nr_se (c : Sg) (x : Nat → Nat) : (c.s_nr x).se = c.se := rfl
theorem px_nr_nw (c : Sg) (x : Nat → Nat) : (c.s_nr x).nw = c.nw := rfl
theorem px_nr_wt (c : Sg) (x : Nat → Nat) : (c.s_nr x).wt = c.wt := rfl
theorem px_nr_nl (c : Sg) (x : Nat → Nat) : (c.s_nr x).nl = c.nl := rfl
theorem px_nr_lt (c : Sg) (x : Nat → Nat) : (c.s_nr x).lt = c.lt := rfl
theorem px_nr_go (c : Sg) (x : Nat → Nat) : (c.s_nr x).go = c.go := rfl
theorem px_nr_co (c : Sg) (x : Nat → Nat) : (c.s_nr x).co = c.co := rfl
theorem px_rt_now (c : Sg) (x : Nat → Nat → Rt) : (c.s_rt x).now = c.now := rfl
theorem px_rt_made (c : Sg) (x : Nat → Nat → Rt) : (c.s_rt x).made = c.made := rfl
theorem px_rt_dlv (c : Sg) (x : Nat → Nat → Rt) : (c.s_rt x).dlv = c.dlv := rfl
theorem px_rt_addr (c : Sg) (x : Nat → Nat → Rt) : (c.s_rt x).addr = c.addr := rfl
theorem px_rt_load (c : Sg) (x : Nat → Nat → Rt) : (c.s_rt x).load = c.load := rfl
theorem px_rt_nr (c : Sg) (x : Nat → Nat → Rt) : (c.s_rt x).nr = c.nr := rfl
theorem px_rt_rt (c : Sg) (x : Nat → Nat → Rt) : (c.s_rt x).rt = x := rfl
theorem px_rt_kn (c : Sg) (x : Nat → Nat → Rt) : (c.s_rt x).kn = c.kn := rfl
theorem px_rt_stT (c : Sg) (x : Nat → Nat → Rt) : (c.s_rt x).stT = c.stT := rfl
theorem px_rt_stS (c : Sg) (x : Nat → Nat → Rt) : (c.s_rt x).stS = c.stS := rfl
theorem px_rt_ck (c : Sg) (x : Nat → Nat → Rt) : (c.s_rt x).ck = c.ck := rfl
theorem px_rt_ckAt (c : Sg) (x : Nat → Nat → Rt) : (c.s_rt x).ckAt = c.ckAt := rfl
theorem px_rt_fl (c : Sg) (x : Nat → Nat → Rt) : (c.s_rt x).fl = c.fl := rfl
theorem px_rt_se (c : Sg) (x : Nat → Nat → Rt) : (c.s_rt x).se = c.se := rfl
theorem px_rt_nw (c : Sg) (x : Nat → Nat → Rt) : (c.s_rt x).nw = c.nw := rfl
theorem px_rt_wt (c : Sg) (x : Nat → Nat → Rt) : (c.s_rt x).wt = c.wt := rfl
theorem px_rt_nl (c : Sg) (x : Nat → Nat → Rt) : (c.s_rt x).nl = c.nl := rfl
theorem px_rt_lt (c : Sg) (x : Nat → Nat → Rt) : (c.s_rt x).lt = c.lt := rfl
theorem px_rt_go (c : Sg) (x : Nat → Nat → Rt) : (c.s_rt x).go = c.go := rfl
theorem px_rt_co (c : Sg) (x : Nat → Nat → Rt) : (c.s_rt x).co = c.co := rfl
theorem px_kn_now (c : Sg) (x : Nat → Nat → Int32) : (c.s_kn x).now = c.now := rfl
theorem px_kn_made (c : Sg) (x : Nat → Nat → Int32) : (c.s_kn x).made = c.made := rfl
theorem px_kn_dlv (c : Sg) (x : Nat → Nat → Int32) : (c.s_kn x).dlv = c.dlv := rfl
theorem px_kn_addr (c : Sg) (x : Nat → Nat → Int32) : (c.s_kn x).addr = c.addr := rfl
theorem px_kn_load (c : Sg) (x : Nat → Nat → Int32) : (c.s_kn x).load = c.load := rfl
theorem px_kn_nr (c : Sg) (x : Nat → Nat → Int32) : (c.s_kn x).nr = c.nr := rfl
theorem px_kn_rt (c : Sg) (x : Nat → Nat → Int32) : (c.s_kn x).rt = c.rt := rfl
theorem px_kn_kn (c : Sg) (x : Nat → Nat → Int32) : (c.s_kn x).kn = x := rfl
theorem px_kn_stT (c : Sg) (x : Nat → Nat → Int32) : (c.s_kn x).stT = c.stT := rfl
theorem px_kn_stS (c : Sg) (x : Nat → Nat → Int32) : (c.s_kn x).stS = c.stS := rfl
theorem px_kn_ck (c : Sg) (x : Nat → Nat → Int32) : (c.s_kn x).ck = c.ck := rfl
theorem px_kn_ckAt (c : Sg) (x : Nat → Nat → Int32) : (c.s_kn x).ckAt = c.ckAt := rfl
theorem px_kn_fl (c : Sg) (x : Nat → Nat → Int32) : (c.s_kn x).fl = c.fl := rfl
theorem px_kn_se (c : Sg) (x : Nat → Nat → Int32) : (c.s_kn x).se = c.se := rfl
theorem px_kn_nw (c : Sg) (x : Nat → Nat → Int32) : (c.s_kn x).nw = c.nw := rfl
theorem px_kn_wt (c : Sg) (x : Nat → Nat → Int32) : (c.s_kn x).wt = c.wt := rfl
theorem px_kn_nl (c : Sg) (x : Nat → Nat → Int32) : (c.s_kn x).nl = c.nl := rfl
theorem px_kn_lt (c : Sg) (x : Nat → Nat → Int32) : (c.s_kn x).lt = c.lt := rfl
theorem px_kn_go (c : Sg) (x : Nat → Nat → Int32) : (c.s_kn x).go = c.go := rfl
theorem px_kn_co (c : Sg) (x : Nat → Nat → Int32) : (c.s_kn x).co = c.co := rfl
theorem px_stT_now (c : Sg) (x : Nat → Nat → Int32) : (c.s_stT x).now = c.now := rfl
theorem px_stT_made (c : Sg) (x : Nat → Nat → Int32) : (c.s_stT x).made = c.made := rfl
theorem px_stT_dlv (c : Sg) (x : Nat → Nat → Int32) : (c.s_stT x).dlv = c.dlv := rfl
theorem px_stT_addr (c : Sg) (x : Nat → Nat → Int32) : (c.s_stT x).addr = c.addr := rfl
theorem px_stT_load (c : Sg) (x : Nat → Nat → Int32) : (c.s_stT x).load = c.load := rfl
theorem px_stT_nr (c : Sg) (x : Nat → Nat → Int32) : (c.s_stT x).nr = c.nr := rfl
theorem px_stT_rt (c : Sg) (x : Nat → Nat → Int32) : (c.s_stT x).rt = c.rt := rfl
theorem px_stT_kn (c : Sg) (x : Nat → Nat → Int32) : (c.s_stT x).kn = c.kn := rfl
theorem px_stT_stT (c : Sg) (x : Nat → Nat → Int32) : (c.s_stT x).stT = x := rfl
theorem px_stT_stS (c : Sg) (x : Nat → Nat → Int32) : (c.s_stT x).stS = c.stS := rfl
theorem px_stT_ck (c : Sg) (x : Nat → Nat → Int32) : (c.s_stT x).ck = c.ck := rfl
theorem px_stT_ckAt (c : Sg) (x : Nat → Nat → Int32) : (c.s_stT x).ckAt = c.ckAt := rfl
theorem px_stT_fl (c : Sg) (x : Nat → Nat → Int32) : (c.s_stT x).fl = c.fl := rfl
theorem px_stT_se (c : Sg) (x : Nat → Nat → Int32) : (c.s_stT x).se = c.se := rfl
theorem px_stT_nw (c : Sg) (x : Nat → Nat → Int32) : (c.s_stT x).nw = c.nw := rfl
theorem px_stT_wt (c : Sg) (x : Nat → Nat → Int32) : (c.s_stT x).wt = c.wt := rfl
theorem px_stT_nl (c : Sg) (x : Nat → Nat → Int32) : (c.s_stT x).nl = c.nl := rfl
theorem px_stT_lt (c : Sg) (x : Nat → Nat → Int32) : (c.s_stT x).lt = c.lt := rfl
theorem px_stT_go (c : Sg) (x : Nat → Nat → Int32) : (c.s_stT x).go = c.go := rfl
theorem px_stT_co (c : Sg) (x : Nat → Nat → Int32) : (c.s_stT x).co = c.co := rfl
theorem px_stS_now (c : Sg) (x : Nat → Nat → Int32) : (c.s_stS x).now = c.now := rfl
theorem px_stS_made (c : Sg) (x : Nat → Nat → Int32) : (c.s_stS x).made = c.made := rfl
theorem px_stS_dlv (c : Sg) (x : Nat → Nat → Int32) : (c.s_stS x).dlv = c.dlv := rfl
theorem px_stS_addr (c : Sg) (x : Nat → Nat → Int32) : (c.s_stS x).addr = c.addr := rfl
theorem px_stS_load (c : Sg) (x : Nat → Nat → Int32) : (c.s_stS x).load = c.load := rfl
theorem px_stS_nr (c : Sg) (x : Nat → Nat → Int32) : (c.s_stS x).nr = c.nr := rfl
theorem px_stS_rt (c : Sg) (x : Nat → Nat → Int32) : (c.s_stS x).rt = c.rt := rfl
theorem px_stS_kn (c : Sg) (x : Nat → Nat → Int32) : (c.s_stS x).kn = c.kn := rfl
theorem px_stS_stT (c : Sg) (x : Nat → Nat → Int32) : (c.s_stS x).stT = c.stT := rfl
theorem px_stS_stS (c : Sg) (x : Nat → Nat → Int32) : (c.s_stS x).stS = x := rfl
theorem px_stS_ck (c : Sg) (x : Nat → Nat → Int32) : (c.s_stS x).ck = c.ck := rfl
theorem px_stS_ckAt (c : Sg) (x : Nat → Nat → Int32) : (c.s_stS x).ckAt = c.ckAt := rfl
theorem px_stS_fl (c : Sg) (x : Nat → Nat → Int32) : (c.s_stS x).fl = c.fl := rfl
theorem px_stS_se (c : Sg) (x : Nat → Nat → Int32) : (c.s_stS x).se = c.se := rfl
theorem px_stS_nw (c : Sg) (x : Nat → Nat → Int32) : (c.s_stS x).nw = c.nw := rfl
theorem px_stS_wt (c : Sg) (x : Nat → Nat → Int32) : (c.s_stS x).wt = c.wt := rfl
theorem px_stS_nl (c : Sg) (x : Nat → Nat → Int32) : (c.s_stS x).nl = c.nl := rfl
theorem px_stS_lt (c : Sg) (x : Nat → Nat → Int32) : (c.s_stS x).lt = c.lt := rfl
theorem px_stS_go (c : Sg) (x : Nat → Nat → Int32) : (c.s_stS x).go = c.go := rfl
theorem px_stS_co (c : Sg) (x : Nat → Nat → Int32) : (c.s_stS x).co = c.co := rfl
theorem px_ck_now (c : Sg) (x : Nat → Nat → Int32) : (c.s_ck x).now = c.now := rfl
theorem px_ck_made (c : Sg) (x : Nat → Nat → Int32) : (c.s_ck x).made = c.made := rfl
theorem px_ck_dlv (c : Sg) (x : Nat → Nat → Int32) : (c.s_ck x).dlv = c.dlv := rfl
theorem px_ck_addr (c : Sg) (x : Nat → Nat → Int32) : (c.s_ck x).addr = c.addr := rfl
theorem px_ck_load (c : Sg) (x : Nat → Nat → Int32) : (c.s_ck x).load = c.load := rfl
theorem px_ck_nr (c : Sg) (x : Nat → Nat → Int32) : (c.s_ck x).nr = c.nr := rfl
theorem px_ck_rt (c : Sg) (x : Nat → Nat → Int32) : (c.s_ck x).rt = c.rt := rfl
theorem px_ck_kn (c : Sg) (x : Nat → Nat → Int32) : (c.s_ck x).kn = c.kn := rfl
theorem px_ck_stT (c : Sg) (x : Nat → Nat → Int32) : (c.s_ck x).stT = c.stT := rfl
theorem px_ck_stS (c : Sg) (x : Nat → Nat → Int32) : (c.s_ck x).stS = c.stS := rfl
theorem px_ck_ck (c : Sg) (x : Nat → Nat → Int32) : (c.s_ck x).ck = x := rfl
theorem px_ck_ckAt (c : Sg) (x : Nat → Nat → Int32) : (c.s_ck x).ckAt = c.ckAt := rfl
theorem px_ck_fl (c : Sg) (x : Nat → Nat → Int32) : (c.s_ck x).fl = c.fl := rfl
theorem px_ck_se (c : Sg) (x : Nat → Nat → Int32) : (c.s_ck x).se = c.se := rfl
theorem px_ck_nw (c : Sg) (x : Nat → Nat → Int32) : (c.s_ck x).nw = c.nw := rfl
theorem px_ck_wt (c : Sg) (x : Nat → Nat → Int32) : (c.s_ck x).wt = c.wt := rfl
theorem px_ck_nl (c : Sg) (x : Nat → Nat → Int32) : (c.s_ck x).nl = c.nl := rfl
theorem px_ck_lt (c : Sg) (x : Nat → Nat → Int32) : (c.s_ck x).lt = c.lt := rfl
theorem px_ck_go (c : Sg) (x : Nat → Nat → Int32) : (c.s_ck x).go = c.go := rfl
theorem px_ck_co (c : Sg) (x : Nat → Nat → Int32) : (c.s_ck x).co = c.co := rfl
theorem px_ckAt_now (c : Sg) (x : Nat → Nat → Int32) : (c.s_ckAt x).now = c.now := rfl
theorem px_ckAt_made (c : Sg) (x : Nat → Nat → Int32) : (c.s_ckAt x).made = c.made := rfl
theorem px_ckAt_dlv (c : Sg) (x : Nat → Nat → Int32) : (c.s_ckAt x).dlv = c.dlv := rfl
theorem px_ckAt_addr (c : Sg) (x : Nat → Nat → Int32) : (c.s_ckAt x).addr = c.addr := rfl
theorem px_ckAt_load (c : Sg) (x : Nat → Nat → Int32) : (c.s_ckAt x).load = c.load := rfl
theorem px_ckAt_nr (c : Sg) (x : Nat → Nat → Int32) : (c.s_ckAt x).nr = c.nr := rfl
theorem px_ckAt_rt (c : Sg) (x : Nat → Nat → Int32) : (c.s_ckAt x).rt = c.rt := rfl
theorem px_ckAt_kn (c : Sg) (x : Nat → Nat → Int32) : (c.s_ckAt x).kn = c.kn := rfl
theorem px_ckAt_stT (c : Sg) (x : Nat → Nat → Int32) : (c.s_ckAt x).stT = c.stT := rfl
theorem px_ckAt_stS (c : Sg) (x : Nat → Nat → Int32) : (c.s_ckAt x).stS = c.stS := rfl
theorem px_ckAt_ck (c : Sg) (x : Nat → Nat → Int32) : (c.s_ckAt x).ck = c.ck := rfl
theorem px_ckAt_ckAt (c : Sg) (x : Nat → Nat → Int32) : (c.s_ckAt x).ckAt = x := rfl
theorem px_ckAt_fl (c : Sg) (x : Nat → Nat → Int32) : (c.s_ckAt x).fl = c.fl := rfl
theorem px_ckAt_se (c : Sg) (x : Nat → Nat → Int32) : (c.s_ckAt x).se = c.se := rfl
theorem px_ckAt_nw (c : Sg) (x : Nat → Nat → Int32) : (c.s_ckAt x).nw = c.nw := rfl
theorem px_ckAt_wt (c : Sg) (x : Nat → Nat → Int32) : (c.s_ckAt x).wt = c.wt := rfl
theorem px_ckAt_nl (c : Sg) (x : Nat → Nat → Int32) : (c.s_ckAt x).nl = c.nl := rfl
theorem px_ckAt_lt (c : Sg) (x : Nat → Nat → Int32) : (c.s_ckAt x).lt = c.lt := rfl
theorem px_ckAt_go (c : Sg) (x : Nat → Nat → Int32) : (c.s_ckAt x).go = c.go := rfl
theorem px_ckAt_co (c : Sg) (x : Nat → Nat → Int32) : (c.s_ckAt x).co = c.co := rfl
theorem px_fl_now (c : Sg) (x : Nat → Nat → Option Fl) : (c.s_fl x).now = c.now := rfl
theorem px_fl_made (c : Sg) (x : Nat → Nat → Option Fl) : (c.s_fl x).made = c.made := rfl
theorem px_fl_dlv (c : Sg) (x : Nat → Nat → Option Fl) : (c.s_fl x).dlv = c.dlv := rfl
theorem px_fl_addr (c : Sg) (x : Nat → Nat → Option Fl) : (c.s_fl x).addr = c.addr := rfl
theorem px_fl_load (c : Sg) (x : Nat → Nat → Option Fl) : (c.s_fl x).load = c.load := rfl
theorem px_fl_nr (c : Sg) (x : Nat → Nat → Option Fl) : (c.s_fl x).nr = c.nr := rfl
theorem px_fl_rt (c : Sg) (x : Nat → Nat → Option Fl) : (c.s_fl x).rt = c.rt := rfl
theorem px_fl_kn (c : Sg) (x : Nat → Nat → Option Fl) : (c.s_fl x).kn = c.kn := rfl
theorem px_fl_stT (c : Sg) (x : Nat → Nat → Option Fl) : (c.s_fl x).stT = c.stT := rfl
theorem px_fl_stS (c : Sg) (x : Nat → Nat → Option Fl) : (c.s_fl x).stS = c.stS := rfl
theorem px_fl_ck (c : Sg) (x : Nat → Nat → Option Fl) : (c.s_fl x).ck = c.ck := rfl
theorem px_fl_ckAt (c : Sg) (x : Nat → Nat → Option Fl) : (c.s_fl x).ckAt = c.ckAt := rfl
theorem px_fl_fl (c : Sg) (x : Nat → Nat → Option Fl) : (c.s_fl x).fl = x := rfl
theorem px_fl_se (c : Sg) (x : Nat → Nat → Option Fl) : (c.s_fl x).se = c.se := rfl
theorem px_fl_nw (c : Sg) (x : Nat → Nat → Option Fl) : (c.s_fl x).nw = c.nw := rfl
theorem px_fl_wt (c : Sg) (x : Nat → Nat → Option Fl) : (c.s_fl x).wt = c.wt := rfl
theorem px_fl_nl (c : Sg) (x : Nat → Nat → Option Fl) : (c.s_fl x).nl = c.nl := rfl
theorem px_fl_lt (c : Sg) (x : Nat → Nat → Option Fl) : (c.s_fl x).lt = c.lt := rfl
theorem px_fl_go (c : Sg) (x : Nat → Nat → Option Fl) : (c.s_fl x).go = c.go := rfl
theorem px_fl_co (c : Sg) (x : Nat → Nat → Option Fl) : (c.s_fl x).co = c.co := rfl
theorem px_se_now (c : Sg) (x : Nat → Nat → Nat → Option Ses) : (c.s_se x).now = c.now := rfl
theorem px_se_made (c : Sg) (x : Nat → Nat → Nat → Option Ses) : (c.s_se x).made = c.made := rfl
theorem px_se_dlv (c : Sg) (x : Nat → Nat → Nat → Option Ses) : (c.s_se x).dlv = c.dlv := rfl
theorem px_se_addr (c : Sg) (x : Nat → Nat → Nat → Option Ses) : (c.s_se x).addr = c.addr := rfl
theorem px_se_load (c : Sg) (x : Nat → Nat → Nat → Option Ses) : (c.s_se x).load = c.load := rfl
theorem px_se_nr (c : Sg) (x : Nat → Nat → Nat → Option Ses) : (c.s_se x).nr = c.nr := rfl
theorem px_se_rt (c : Sg) (x : Nat → Nat → Nat → Option Ses) : (c.s_se x).rt = c.rt := rfl
theorem px_se_kn (c : Sg) (x : Nat → Nat → Nat → Option Ses) : (c.s_se x).kn = c.kn := rfl
theorem px_se_stT (c : Sg) (x : Nat → Nat → Nat → Option Ses) : (c.s_se x).stT = c.stT := rfl
theorem px_se_stS (c : Sg) (x : Nat → Nat → Nat → Option Ses) : (c.s_se x).stS = c.stS := rfl
theorem px_se_ck (c : Sg) (x : Nat → Nat → Nat → Option Ses) : (c.s_se x).ck = c.ck := rfl
theorem px_se_ckAt (c : Sg) (x : Nat → Nat → Nat → Option Ses) : (c.s_se x).ckAt = c.ckAt := rfl
theorem px_se_fl (c : Sg) (x : Nat → Nat → Nat → Option Ses) : (c.s_se x).fl = c.fl := rfl
theorem px_se_se (c : Sg) (x : Nat → Nat → Nat → Option Ses) : (c.s_se x).se = x := rfl
theorem px_se_nw (c : Sg) (x : Nat → Nat → Nat → Option Ses) : (c.s_se x).nw = c.nw := rfl
theorem px_se_wt (c : Sg) (x : Nat → Nat → Nat → Option Ses) : (c.s_se x).wt = c.wt := rfl
theorem px_se_nl (c : Sg) (x : Nat → Nat → Nat → Option Ses) : (c.s_se x).nl = c.nl := rfl
theorem px_se_lt (c : Sg) (x : Nat → Nat → Nat → Option Ses) : (c.s_se x).lt = c.lt := rfl
theorem px_se_go (c : Sg) (x : Nat → Nat → Nat → Option Ses) : (c.s_se x).go = c.go := rfl
theorem px_se_co (c : Sg) (x : Nat → Nat → Nat → Option Ses) : (c.s_se x).co = c.co := rfl
theorem px_nw_now (c : Sg) (x : Nat → Nat → Nat) : (c.s_nw x).now = c.now := rfl
theorem px_nw_made (c : Sg) (x : Nat → Nat → Nat) : (c.s_nw x).made = c.made := rfl
theorem px_nw_dlv (c : Sg) (x : Nat → Nat → Nat) : (c.s_nw x).dlv = c.dlv := rfl
theorem px_nw_addr (c : Sg) (x : Nat → Nat → Nat) : (c.s_nw x).addr = c.addr := rfl
theorem px_nw_load (c : Sg) (x : Nat → Nat → Nat) : (c.s_nw x).load = c.load := rfl
theorem px_nw_nr (c : Sg) (x : Nat → Nat → Nat) : (c.s_nw x).nr = c.nr := rfl
theorem px_nw_rt (c : Sg) (x : Nat → Nat → Nat) : (c.s_nw x).rt = c.rt := rfl
theorem px_nw_kn (c : Sg) (x : Nat → Nat → Nat) : (c.s_nw x).kn = c.kn := rfl
theorem px_nw_stT (c : Sg) (x : Nat → Nat → Nat) : (c.s_nw x).stT = c.stT := rfl
theorem px_nw_stS (c : Sg) (x : Nat → Nat → Nat) : (c.s_nw x).stS = c.stS := rfl
theorem px_nw_ck (c : Sg) (x : Nat → Nat → Nat) : (c.s_nw x).ck = c.ck := rfl
theorem px_nw_ckAt (c : Sg) (x : Nat → Nat → Nat) : (c.s_nw x).ckAt = c.ckAt := rfl
theorem px_nw_fl (c : Sg) (x : Nat → Nat → Nat) : (c.s_nw x).fl = c.fl := rfl
theorem px_nw_se (c : Sg) (x : Nat → Nat → Nat) : (c.s_nw x).se = c.se := rfl
theorem px_nw_nw (c : Sg) (x : Nat → Nat → Nat) : (c.s_nw x).nw = x := rfl
theorem px_nw_wt (c : Sg) (x : Nat → Nat → Nat) : (c.s_nw x).wt = c.wt := rfl
theorem px_nw_nl (c : Sg) (x : Nat → Nat → Nat) : (c.s_nw x).nl = c.nl := rfl
theorem px_nw_lt (c : Sg) (x : Nat → Nat → Nat) : (c.s_nw x).lt = c.lt := rfl
theorem px_nw_go (c : Sg) (x : Nat → Nat → Nat) : (c.s_nw x).go = c.go := rfl
theorem px_nw_co (c : Sg) (x : Nat → Nat → Nat) : (c.s_nw x).co = c.co := rfl
theorem px_wt_now (c : Sg) (x : Nat → Nat → Nat → Pk) : (c.s_wt x).now = c.now := rfl
theorem px_wt_made (c : Sg) (x : Nat → Nat → Nat → Pk) : (c.s_wt x).made = c.made := rfl
theorem px_wt_dlv (c : Sg) (x : Nat → Nat → Nat → Pk) : (c.s_wt x).dlv = c.dlv := rfl
theorem px_wt_addr (c : Sg) (x : Nat → Nat → Nat → Pk) : (c.s_wt x).addr = c.addr := rfl
theorem px_wt_load (c : Sg) (x : Nat → Nat → Nat → Pk) : (c.s_wt x).load = c.load := rfl
theorem px_wt_nr (c : Sg) (x : Nat → Nat → Nat → Pk) : (c.s_wt x).nr = c.nr := rfl
theorem px_wt_rt (c : Sg) (x : Nat → Nat → Nat → Pk) : (c.s_wt x).rt = c.rt := rfl
theorem px_wt_kn (c : Sg) (x : Nat → Nat → Nat → Pk) : (c.s_wt x).kn = c.kn := rfl
theorem px_wt_stT (c : Sg) (x : Nat → Nat → Nat → Pk) : (c.s_wt x).stT = c.stT := rfl
theorem px_wt_stS (c : Sg) (x : Nat → Nat → Nat → Pk) : (c.s_wt x).stS = c.stS := rfl
theorem px_wt_ck (c : Sg) (x : Nat → Nat → Nat → Pk) : (c.s_wt x).ck = c.ck := rfl
theorem px_wt_ckAt (c : Sg) (x : Nat → Nat → Nat → Pk) : (c.s_wt x).ckAt = c.ckAt := rfl
theorem px_wt_fl (c : Sg) (x : Nat → Nat → Nat → Pk) : (c.s_wt x).fl = c.fl := rfl
theorem px_wt_se (c : Sg) (x : Nat → Nat → Nat → Pk) : (c.s_wt x).se = c.se := rfl
theorem px_wt_nw (c : Sg) (x : Nat → Nat → Nat → Pk) : (c.s_wt x).nw = c.nw := rfl
theorem px_wt_wt (c : Sg) (x : Nat → Nat → Nat → Pk) : (c.s_wt x).wt = x := rfl
theorem px_wt_nl (c : Sg) (x : Nat → Nat → Nat → Pk) : (c.s_wt x).nl = c.nl := rfl
theorem px_wt_lt (c : Sg) (x : Nat → Nat → Nat → Pk) : (c.s_wt x).lt = c.lt := rfl
theorem px_wt_go (c : Sg) (x : Nat → Nat → Nat → Pk) : (c.s_wt x).go = c.go := rfl
theorem px_wt_co (c : Sg) (x : Nat → Nat → Nat → Pk) : (c.s_wt x).co = c.co := rfl
theorem px_nl_now (c : Sg) (x : Nat) : (c.s_nl x).now = c.now := rfl
theorem px_nl_made (c : Sg) (x : Nat) : (c.s_nl x).made = c.made := rfl
theorem px_nl_dlv (c : Sg) (x : Nat) : (c.s_nl x).dlv = c.dlv := rfl
theorem px_nl_addr (c : Sg) (x : Nat) : (c.s_nl x).addr = c.addr := rfl
theorem px_nl_load (c : Sg) (x : Nat) : (c.s_nl x).load = c.load := rfl
theorem px_nl_nr (c : Sg) (x : Nat) : (c.s_nl x).nr = c.nr := rfl
theorem px_nl_rt (c : Sg) (x : Nat) : (c.s_nl x).rt = c.rt := rfl
theorem px_nl_kn (c : Sg) (x : Nat) : (c.s_nl x).kn = c.kn := rfl
theorem px_nl_stT (c : Sg) (x : Nat) : (c.s_nl x).stT = c.stT := rfl
theorem px_nl_stS (c : Sg) (x : Nat) : (c.s_nl x).stS = c.stS := rfl
theorem px_nl_ck (c : Sg) (x : Nat) : (c.s_nl x).ck = c.ck := rfl
theorem px_nl_ckAt (c : Sg) (x : Nat) : (c.s_nl x).ckAt = c.ckAt := rfl
theorem px_nl_fl (c : Sg) (x : Nat) : (c.s_nl x).fl = c.fl := rfl
theorem px_nl_se (c : Sg) (x : Nat) : (c.s_nl x).se = c.se := rfl
theorem px_nl_nw (c : Sg) (x : Nat) : (c.s_nl x).nw = c.nw := rfl
theorem px_nl_wt (c : Sg) (x : Nat) : (c.s_nl x).wt = c.wt := rfl
theorem px_nl_nl (c : Sg) (x : Nat) : (c.s_nl x).nl = x := rfl
theorem px_nl_lt (c : Sg) (x : Nat) : (c.s_nl x).lt = c.lt := rfl
theorem px_nl_go (c : Sg) (x : Nat) : (c.s_nl x).go = c.go := rfl
theorem px_nl_co (c : Sg) (x : Nat) : (c.s_nl x).co = c.co := rfl
theorem px_lt_now (c : Sg) (x : Nat → Let) : (c.s_lt x).now = c.now := rfl
theorem px_lt_made (c : Sg) (x : Nat → Let) : (c.s_lt x).made = c.made := rfl
theorem px_lt_dlv (c : Sg) (x : Nat → Let) : (c.s_lt x).dlv = c.dlv := rfl
theorem px_lt_addr (c : Sg) (x : Nat → Let) : (c.s_lt x).addr = c.addr := rfl
theorem px_lt_load (c : Sg) (x : Nat → Let) : (c.s_lt x).load = c.load := rfl
theorem px_lt_nr (c : Sg) (x : Nat → Let) : (c.s_lt x).nr = c.nr := rfl
theorem px_lt_rt (c : Sg) (x : Nat → Let) : (c.s_lt x).rt = c.rt := rfl
theorem px_lt_kn (c : Sg) (x : Nat → Let) : (c.s_lt x).kn = c.kn := rfl
theorem px_lt_stT (c : Sg) (x : Nat → Let) : (c.s_lt x).stT = c.stT := rfl
theorem px_lt_stS (c : Sg) (x : Nat → Let) : (c.s_lt x).stS = c.stS := rfl
theorem px_lt_ck (c : Sg) (x : Nat → Let) : (c.s_lt x).ck = c.ck := rfl
theorem px_lt_ckAt (c : Sg) (x : Nat → Let) : (c.s_lt x).ckAt = c.ckAt := rfl
theorem px_lt_fl (c : Sg) (x : Nat → Let) : (c.s_lt x).fl = c.fl := rfl
theorem px_lt_se (c : Sg) (x : Nat → Let) : (c.s_lt x).se = c.se := rfl
theorem px_lt_nw (c : Sg) (x : Nat → Let) : (c.s_lt x).nw = c.nw := rfl
theorem px_lt_wt (c : Sg) (x : Nat → Let) : (c.s_lt x).wt = c.wt := rfl
theorem px_lt_nl (c : Sg) (x : Nat → Let) : (c.s_lt x).nl = c.nl := rfl
theorem px_lt_lt (c : Sg) (x : Nat → Let) : (c.s_lt x).lt = x := rfl
theorem px_lt_go (c : Sg) (x : Nat → Let) : (c.s_lt x).go = c.go := rfl
theorem px_lt_co (c : Sg) (x : Nat → Let) : (c.s_lt x).co = c.co := rfl
theorem px_go_now (c : Sg) (x : List Go) : (c.s_go x).now = c.now := rfl
theorem px_go_made (c : Sg) (x : List Go) : (c.s_go x).made = c.made := rfl
theorem px_go_dlv (c : Sg) (x : List Go) : (c.s_go x).dlv = c.dlv := rfl
theorem px_go_addr (c : Sg) (x : List Go) : (c.s_go x).addr = c.addr := rfl
theorem px_go_load (c : Sg) (x : List Go) : (c.s_go x).load = c.load := rfl
theorem px_go_nr (c : Sg) (x : List Go) : (c.s_go x).nr = c.nr := rfl
theorem px_go_rt (c : Sg) (x : List Go) : (c.s_go x).rt = c.rt := rfl
theorem px_go_kn (c : Sg) (x : List Go) : (c.s_go x).kn = c.kn := rfl
theorem px_go_stT (c : Sg) (x : List Go) : (c.s_go x).stT = c.stT := rfl
theorem px_go_stS (c : Sg) (x : List Go) : (c.s_go x).stS = c.stS := rfl
theorem px_go_ck (c : Sg) (x : List Go) : (c.s_go x).ck = c.ck := rfl
theorem px_go_ckAt (c : Sg) (x : List Go) : (c.s_go x).ckAt = c.ckAt := rfl
theorem px_go_fl (c : Sg) (x : List Go) : (c.s_go x).fl = c.fl := rfl
theorem px_go_se (c : Sg) (x : List Go) : (c.s_go x).se = c.se := rfl
theorem px_go_nw (c : Sg) (x : List Go) : (c.s_go x).nw = c.nw := rfl
theorem px_go_wt (c : Sg) (x : List Go) : (c.s_go x).wt = c.wt := rfl
theorem px_go_nl (c : Sg) (x : List Go) : (c.s_go x).nl = c.nl := rfl
theorem px_go_lt (c : Sg) (x : List Go) : (c.s_go x).lt = c.lt := rfl
theorem px_go_go (c : Sg) (x : List Go) : (c.s_go x).go = x := rfl
theorem px_go_co (c : Sg) (x : List Go) : (c.s_go x).co = c.co := rfl
theorem px_co_now (c : Sg) (x : Nat → Int32) : (c.s_co x).now = c.now := rfl
theorem px_co_made (c : Sg) (x : Nat → Int32) : (c.s_co x).made = c.made := rfl
theorem px_co_dlv (c : Sg) (x : Nat → Int32) : (c.s_co x).dlv = c.dlv := rfl
theorem px_co_addr (c : Sg) (x : Nat → Int32) : (c.s_co x).addr = c.addr := rfl
theorem px_co_load (c : Sg) (x : Nat → Int32) : (c.s_co x).load = c.load := rfl
theorem px_co_nr (c : Sg) (x : Nat → Int32) : (c.s_co x).nr = c.nr := rfl
theorem px_co_rt (c : Sg) (x : Nat → Int32) : (c.s_co x).rt = c.rt := rfl
theorem px_co_kn (c : Sg) (x : Nat → Int32) : (c.s_co x).kn = c.kn := rfl
theorem px_co_stT (c : Sg) (x : Nat → Int32) : (c.s_co x).stT = c.stT := rfl
theorem px_co_stS (c : Sg) (x : Nat → Int32) : (c.s_co x).stS = c.stS := rfl
theorem px_co_ck (c : Sg) (x : Nat → Int32) : (c.s_co x).ck = c.ck := rfl
theorem px_co_ckAt (c : Sg) (x : Nat → Int32) : (c.s_co x).ckAt = c.ckAt := rfl
theorem px_co_fl (c : Sg) (x : Nat → Int32) : (c.s_co x).fl = c.fl := rfl
theorem px_co_se (c : Sg) (x : Nat → Int32) : (c.s_co x).se = c.se := rfl
theorem px_co_nw (c : Sg) (x : Nat → Int32) : (c.s_co x).nw = c.nw := rfl
theorem px_co_wt (c : Sg) (x : Nat → Int32) : (c.s_co x).wt = c.wt := rfl
theorem px_co_nl (c : Sg) (x : Nat → Int32) : (c.s_co x).nl = c.nl := rfl
theorem px_co_lt (c : Sg) (x : Nat → Int32) : (c.s_co x).lt = c.lt := rfl
theorem px_co_go (c : Sg) (x : Nat → Int32) : (c.s_co x).go = c.go := rfl
theorem px_co_co (c : Sg) (x : Nat → Int32) : (c.s_co x).co = x := rfl
