/-! THE PLAIN LAW, 6: steps through what code asks, over R -/
set_option maxRecDepth 100000
theorem gI_of {w : Hp} {p ci k : Nat} {fs : List Value} {v : Int32} {c : Int32 → Prop} (hw : w p = some (.inr (ci, fs))) (hk : fs[k]? = some (.int v)) (h : c v) : gI w p ci k c := ⟨fs, v, hw, hk, h⟩
theorem gJ_of {w : Hp} {p ci k : Nat} {fs : List Value} {v : Int64} {c : Int64 → Prop} (hw : w p = some (.inr (ci, fs))) (hk : fs[k]? = some (.long v)) (h : c v) : gJ w p ci k c := ⟨fs, v, hw, hk, h⟩
theorem gR_of {w : Hp} {p ci k : Nat} {fs : List Value} {v : Option Nat} {c : Option Nat → Prop} (hw : w p = some (.inr (ci, fs))) (hk : fs[k]? = some (va_rf v)) (h : c v) : gR w p ci k c := ⟨fs, v, hw, hk, h⟩
theorem dR_of {a : Nat} {k : Nat → Prop} (h : k a) : dR (some a) k := ⟨a, rfl, h⟩
theorem gD_of {w : Hp} {p ci k : Nat} {fs : List Value} {a : Nat} {c : Nat → Prop} (hw : w p = some (.inr (ci, fs))) (hk : fs[k]? = some (rf a)) (h : c a) : gR w p ci k fun r => dR r c := ⟨fs, _, hw, hk, a, rfl, h⟩
theorem pV_of {w : Hp} {p ci k : Nat} {fs : List Value} {v : Value} {c : Hp → Prop} (hw : w p = some (.inr (ci, fs))) (hk : k < fs.length) (h : c (hu w p (.inr (ci, fs.set k v)))) : pV w p ci k v c := ⟨fs, hw, hk, h⟩
theorem isO_of {w : Hp} {p ci : Nat} {fs : List Value} {c : Prop} (hw : w p = some (.inr (ci, fs))) (h : c) : isO w p ci c := ⟨⟨fs, hw⟩, h⟩
theorem aR_of {w : Hp} {p t n m i : Nat} {q : Nat → Nat} {c : Option Nat → Prop} (hP : okP (w p) t n m q) (hi : i < m) (h : c (some (q i))) (h3 : 3 ≤ t := by decide) (h4 : t < 14 := by decide) (hm : m ≤ n := by decide) (hn : n < 2 ^ 31 := by decide) : aR w p (nI i) c := by
  obtain ⟨f, h1, h2⟩ := hP
  exact ⟨t, n, f, h3, h4, h1, nI_in (by omega) hn, by rw [nI_clamp (by omega), h2 i hi]; exact h⟩
theorem aD_of {w : Hp} {p t n m i : Nat} {q : Nat → Nat} {c : Nat → Prop} (hP : okP (w p) t n m q) (hi : i < m) (h : c (q i)) (h3 : 3 ≤ t := by decide) (h4 : t < 14 := by decide) (hm : m ≤ n := by decide) (hn : n < 2 ^ 31 := by decide) : aR w p (nI i) fun r => dR r c := aR_of hP hi (dR_of h) h3 h4 hm hn
theorem aI_at {w : Hp} {p n i : Nat} {f : Nat → Int32} {c : Int32 → Prop} (hw : w p = some (aE 0 n f)) (hi : i < n) (h : c (f i)) (hn : n < 2 ^ 31 := by decide) : aI w p (nI i) c := aI_of hw hi hn h
theorem aZ_at {w : Hp} {p n i : Nat} {f : Nat → Int32} {c : Int32 → Prop} (hw : w p = some (aE 1 n f)) (hi : i < n) (h : c (f i)) (hn : n < 2 ^ 31 := by decide) : aZ w p (nI i) c :=
  ⟨n, f, hw, nI_in hi hn, by rw [nI_clamp (by omega)]; exact h⟩
theorem sI_at {w : Hp} {p n i : Nat} {f : Nat → Int32} {x : Int32} {c : Hp → Prop} (hw : w p = some (aE 0 n f)) (hi : i < n) (h : c (hu w p (aE 0 n (upd f i x)))) (hn : n < 2 ^ 31 := by decide) : sI w p (nI i) x c :=
  ⟨n, f, hw, nI_in hi hn, by rw [nI_clamp (by omega)]; exact h⟩
theorem sZ_at {w : Hp} {p n i : Nat} {f : Nat → Int32} {x : Int32} {c : Hp → Prop} (hx : x = 0 ∨ x = 1) (hw : w p = some (aE 1 n f)) (hi : i < n) (h : c (hu w p (aE 1 n (upd f i x)))) (hn : n < 2 ^ 31 := by decide) : sZ w p (nI i) x c :=
  ⟨hx, n, f, hw, nI_in hi hn, by rw [nI_clamp (by omega)]; exact h⟩
/-- a new int array that nobody keeps yet -/
theorem nI_R {A ad : Ro → Nat} {s : Wo} {w : Hp} (hR : R A ad s w) {n B : Nat} {c : Hp → Nat → Prop} (hn : n ≤ B) (hn2 : n < 2 ^ 31) (h : ∀ (w' : Hp) (b : Nat), R A ad s w' → w' b = some (aE 0 n (fun _ => 0)) → (∀ r, Lv s r → ad r ≠ b) → (∀ p e, w p = some e → w' p = some e) → c w' b) : nI_ w (nI n) B c := by
  refine ⟨nI_pos hn2, by rw [nI_clamp hn2]; exact hn, fun a ha => ?_⟩
  rw [nI_clamp hn2]
  refine h _ a (hR.fresh ha (fun z => by cases z)) hu_s (hR.apart ha) (fun p e hp => ?_)
  rw [hu_n (fun z => by rw [z, ha] at hp; cases hp)]; exact hp
theorem sI_R {A ad : Ro → Nat} {s : Wo} {w : Hp} (hR : R A ad s w) {b n i : Nat} {f : Nat → Int32} {x : Int32} {c : Hp → Prop} (hb : w b = some (aE 0 n f)) (hap : ∀ r, Lv s r → ad r ≠ b) (hi : i < n) (h : ∀ w' : Hp, R A ad s w' → w' b = some (aE 0 n (upd f i x)) → (∀ p e, p ≠ b → w p = some e → w' p = some e) → c w') (hn : n < 2 ^ 31 := by decide) : sI w b (nI i) x c :=
  sI_at hb hi (h _ (hR.junk hap (fun z => by cases z)) hu_s (fun p e hp hpe => by rw [hu_n hp]; exact hpe)) hn
/-! the ends -/
theorem ck_in {x : Int32} (h0 : ¬ x < 0) (h1 : x < 3) : ∃ a : Nat, a < 3 ∧ x = nI a := by
  obtain ⟨j, hj, rfl⟩ := nI_of h0
  rw [show (3 : Int32) = nI 3 from rfl, nI_ltI hj (by decide)] at h1
  exact ⟨j, h1, rfl⟩
theorem nI_i3 {a b : Nat} (ha : a < 3) (hb : b < 3) : nI a = nI b ↔ a = b := nI_eq (by omega) (by omega)
/-- checkEnd: what follows sees an end, or the exception is thrown -/
theorem C_checkEnd {w : Hp} {x : Int32} {X : Hp → String → Prop} {K : Hp → Prop} (hx : (∀ a, a < 3 → x ≠ nI a) → X w eIO) (hk : ∀ a, a < 3 → x = nI a → K w) : wp_X1_checkEnd w x X K := by
  refine ⟨fun h => hx (fun a ha z => by subst z; exact nI_pos (by omega) h), fun h => ⟨fun h1 => ?_, fun h1 => hx (fun a ha z => by subst z; exact h1 (nI_lt ha (by decide)))⟩⟩
  obtain ⟨a, ha, hxa⟩ := ck_in h h1
  exact hk a ha hxa
theorem C_checkPeer {w : Hp} {x y : Int32} {X : Hp → String → Prop} {K : Hp → Prop} (h1 : ((∀ a, a < 3 → x ≠ nI a) ∨ (∀ a, a < 3 → y ≠ nI a)) → X w eIO) (h2 : ∀ a, a < 3 → x = nI a → y = nI a → X w eIA) (hk : ∀ a b, a < 3 → b < 3 → a ≠ b → x = nI a → y = nI b → K w) : wp_X1_checkPeer w x y X K := by
  refine C_checkEnd (fun z => h1 (Or.inl z)) (fun a ha hxa => C_checkEnd (fun z => h1 (Or.inr z)) (fun b hb hyb => ?_))
  refine ⟨fun e => ?_, fun e => ?_⟩
  · exact h2 a ha hxa (by rw [← hxa]; exact e.symm)
  · exact hk a b ha hb (fun z => e (by rw [hxa, hyb, z])) hxa hyb
/-! short cuts: sides[a][b], addresses[e], letters -/
theorem rd_side {A ad : Ro → Nat} {s : Wo} {w : Hp} (hR : R A ad s w) {a b : Nat} (ha : a < 3) (hb : b < 3) {c : Option Nat → Prop} (h : c (some (ad (c_sd a b)))) : gR w (ad c_top) 0 6 fun r1 => dR r1 fun b2 => aR w b2 (nI a) fun r3 => dR r3 fun b4 => aR w b4 (nI b) c :=
  gD_of hR.gc_top rfl (aD_of hR.gc_sds ha (aR_of (hR.gc_sdr ha) hb h))
theorem rd_addr {A ad : Ro → Nat} {s : Wo} {w : Hp} (hR : R A ad s w) {e : Nat} (he : e < 3) {c : Int32 → Prop} (h : c (s.c.addr e)) : gR w (ad c_top) 0 3 fun r1 => dR r1 fun b2 => aI w b2 (nI e) c :=
  gD_of hR.gc_top rfl (aI_at hR.gc_addr he h)
/-! what reads only -/
theorem C_age {A ad : Ro → Nat} {s : Wo} {w : Hp} (hR : R A ad s w) {a b k : Nat} (ha : a < 3) (hb : b < 3) (hk : k < 3) {z : Ses} (hz : s.c.se a b k = some z) {K : Hp → Int32 → Prop} (h : K w (s.c.now - z.made)) : wp_X1_age w (ad c_top) (ad (c_se a b k)) K :=
  gI_of hR.gc_top rfl (gI_of (hR.gc_se ha hb hk (by rw [hz]; rfl) z hz) rfl h)
/-- is the session usable -/
def usb (now : Int32) (z : Option Ses) : Prop := ∃ y, z = some y ∧ now - y.made < 30 ∧ y.sl < 40
theorem C_isUsable {A ad : Ro → Nat} {s : Wo} {w : Hp} (hR : R A ad s w) {a b k : Nat} (ha : a < 3) (hb : b < 3) (hk : k < 3) {K : Hp → Int32 → Prop} (h1 : usb s.c.now (s.c.se a b k) → K w 1) (h0 : ¬ usb s.c.now (s.c.se a b k) → K w 0) : wp_X1_isUsable w (ad c_top) (oS (s.c.se a b k) (ad (c_se a b k))) K := by
  cases hz : s.c.se a b k with
  | none =>
    rw [hz] at h0
    exact ⟨fun _ => h0 (fun ⟨y, q, _⟩ => by cases q), fun q => absurd rfl q⟩
  | some z =>
    rw [hz] at h0 h1
    refine ⟨fun q => (by cases q), fun _ => dR_of (isO_of hR.gc_top (C_age hR ha hb hk hz ?_))⟩
    refine ⟨fun q => h0 (fun ⟨y, e, q1, _⟩ => by cases e; exact absurd q (Int32.not_le.mpr q1)), fun q => ?_⟩
    refine gI_of (hR.gc_se ha hb hk (by rw [hz]; rfl) z hz) rfl ?_
    exact ⟨fun q2 => h0 (fun ⟨y, e, _, q1⟩ => by cases e; exact absurd q2 (Int32.not_le.mpr q1)), fun q2 => h1 ⟨z, rfl, Int32.not_le.mp q, Int32.not_le.mp q2⟩⟩
/-- is a hello in flight, and fresh -/
def frs (now : Int32) (z : Option Fl) : Prop := ∃ y, z = some y ∧ now - y.at_ < 5
theorem C_isFresh {A ad : Ro → Nat} {s : Wo} {w : Hp} (hR : R A ad s w) {a b : Nat} (ha : a < 3) (hb : b < 3) {K : Hp → Int32 → Prop} (h1 : frs s.c.now (s.c.fl a b) → K w 1) (h0 : ¬ frs s.c.now (s.c.fl a b) → K w 0) : wp_X1_isFresh w (ad c_top) (ad (c_sd a b)) K := by
  refine gR_of (hR.gc_sd ha hb) rfl ?_
  cases hz : s.c.fl a b with
  | none =>
    rw [hz] at h0
    exact ⟨fun _ => h0 (fun ⟨y, q, _⟩ => by cases q), fun q => absurd rfl q⟩
  | some z =>
    rw [hz] at h0 h1
    refine ⟨fun q => (by cases q), fun _ => gI_of hR.gc_top rfl (gR_of (hR.gc_sd ha hb) rfl ?_)⟩
    rw [oS_some hz]
    refine dR_of (gI_of (hR.gc_fl ha hb (by rw [hz]; rfl) z hz) rfl ?_)
    exact ⟨fun q => h0 (fun ⟨y, e, q1⟩ => by cases e; exact absurd q (Int32.not_le.mpr q1)), fun q => h1 ⟨z, rfl, Int32.not_le.mp q⟩⟩
/-- is a cookie kept, and young -/
def hck (now ck at_ : Int32) : Prop := ck ≠ -1 ∧ now - at_ < 60
theorem C_hasCookie {A ad : Ro → Nat} {s : Wo} {w : Hp} (hR : R A ad s w) {a b : Nat} (ha : a < 3) (hb : b < 3) {K : Hp → Int32 → Prop} (h1 : hck s.c.now (s.c.ck a b) (s.c.ckAt a b) → K w 1) (h0 : ¬ hck s.c.now (s.c.ck a b) (s.c.ckAt a b) → K w 0) : wp_X1_hasCookie w (ad c_top) (ad (c_sd a b)) K := by
  refine gI_of (hR.gc_sd ha hb) rfl ⟨fun q => h0 (fun q1 => q1.1 q), fun q => gI_of hR.gc_top rfl (gI_of (hR.gc_sd ha hb) rfl ?_)⟩
  exact ⟨fun q2 => h0 (fun q1 => absurd q2 (Int32.not_le.mpr q1.2)), fun q2 => h1 ⟨q, Int32.not_le.mp q2⟩⟩
