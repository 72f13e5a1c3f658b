/-! WHAT CODE ASKS OF A WORLD (weakest preconditions), and a row an instruction -/
set_option maxRecDepth 100000
abbrev hr_ (f : Nat → Option Nat) : (Nat → Int32) ⊕ (Nat → Int64) ⊕ (Nat → UInt32) ⊕ (Nat → UInt64) ⊕ (Nat → Option Nat) := .inr (.inr (.inr (.inr f)))
def dR (r : Option Nat) (k : Nat → Prop) : Prop := ∃ a, r = some a ∧ k a
def br (c A B : Prop) : Prop := (c → A) ∧ (¬ c → B)
def nm {α : Type} (e : α) (k : α → Prop) : Prop := ∀ x, x = e → k x
def gI (w : Hp) (a ci k : Nat) (c : Int32 → Prop) : Prop := ∃ fs v, w a = some (.inr (ci, fs)) ∧ fs[k]? = some (.int v) ∧ c v
def gJ (w : Hp) (a ci k : Nat) (c : Int64 → Prop) : Prop := ∃ fs v, w a = some (.inr (ci, fs)) ∧ fs[k]? = some (.long v) ∧ c v
def gR (w : Hp) (a ci k : Nat) (c : Option Nat → Prop) : Prop := ∃ fs v, w a = some (.inr (ci, fs)) ∧ fs[k]? = some (va_rf v) ∧ c v
def pV (w : Hp) (a ci k : Nat) (v : Value) (c : Hp → Prop) : Prop := ∃ fs, w a = some (.inr (ci, fs)) ∧ k < fs.length ∧ c (hu w a (.inr (ci, fs.set k v)))
def pZ (w : Hp) (a ci k : Nat) (v : Int32) (c : Hp → Prop) : Prop := (v = 0 ∨ v = 1) ∧ pV w a ci k (.int v) c
def aI (w : Hp) (a : Nat) (i : Int32) (c : Int32 → Prop) : Prop := ∃ n f, w a = some (.inl (0, n, .inl f)) ∧ vp_in i n ∧ c (f i.toNatClampNeg)
def aZ (w : Hp) (a : Nat) (i : Int32) (c : Int32 → Prop) : Prop := ∃ n f, w a = some (.inl (1, n, .inl f)) ∧ vp_in i n ∧ c (f i.toNatClampNeg)
def aJ (w : Hp) (a : Nat) (i : Int32) (c : Int64 → Prop) : Prop := ∃ n f, w a = some (.inl (2, n, .inr (.inl f))) ∧ vp_in i n ∧ c (f i.toNatClampNeg)
def aR (w : Hp) (a : Nat) (i : Int32) (c : Option Nat → Prop) : Prop := ∃ t n f, 3 ≤ t ∧ t < 14 ∧ w a = some (.inl (t, n, hr_ f)) ∧ vp_in i n ∧ c (f i.toNatClampNeg)
def aN (w : Hp) (a : Nat) (c : Int32 → Prop) : Prop := ∃ t n x, w a = some (.inl (t, n, x)) ∧ t < 14 ∧ c (Int32.ofNat n)
def sI (w : Hp) (a : Nat) (i x : Int32) (c : Hp → Prop) : Prop := ∃ n f, w a = some (.inl (0, n, .inl f)) ∧ vp_in i n ∧ c (hu w a (.inl (0, n, .inl (upd f i.toNatClampNeg x))))
def sZ (w : Hp) (a : Nat) (i x : Int32) (c : Hp → Prop) : Prop := (x = 0 ∨ x = 1) ∧ ∃ n f, w a = some (.inl (1, n, .inl f)) ∧ vp_in i n ∧ c (hu w a (.inl (1, n, .inl (upd f i.toNatClampNeg x))))
def sJ (w : Hp) (a : Nat) (i : Int32) (x : Int64) (c : Hp → Prop) : Prop := ∃ n f, w a = some (.inl (2, n, .inr (.inl f))) ∧ vp_in i n ∧ c (hu w a (.inl (2, n, .inr (.inl (vp_updL f i.toNatClampNeg x)))))
/-- may a cell stand in an array of this type -/
def hok (t : Nat) (e : hE) : Prop := match e with
  | .inr o => (t = 3 ∧ o.1 = 2) ∨ (t = 5 ∧ o.1 = 1) ∨ (t = 6 ∧ (o.1 = 4 ∨ o.1 = 6 ∨ o.1 = 7))
  | .inl x => (t = 6 ∧ x.1 = 0) ∨ hJ t = some x.1
def sR (w : Hp) (a : Nat) (i : Int32) (r : Option Nat) (c : Hp → Prop) : Prop := ∃ t n f, 3 ≤ t ∧ t < 13 ∧ w a = some (.inl (t, n, hr_ f)) ∧ vp_in i n ∧ (r = none → t = 6) ∧ (∀ v, r = some v → ∃ e, w v = some e ∧ hok t e) ∧ c (hu w a (.inl (t, n, hr_ (va_up f i.toNatClampNeg r))))
def nO (w : Hp) (ci : Nat) (fs : List Value) (c : Hp → Nat → Prop) : Prop := ∀ a, w a = none → c (hu w a (.inr (ci, fs))) a
def nI_ (w : Hp) (n : Int32) (B : Nat) (c : Hp → Nat → Prop) : Prop := ¬ n < 0 ∧ n.toNatClampNeg ≤ B ∧ ∀ a, w a = none → c (hu w a (.inl (0, n.toNatClampNeg, .inl (fun _ => 0)))) a
def nZ_ (w : Hp) (n : Int32) (B : Nat) (c : Hp → Nat → Prop) : Prop := ¬ n < 0 ∧ n.toNatClampNeg ≤ B ∧ ∀ a, w a = none → c (hu w a (.inl (1, n.toNatClampNeg, .inl (fun _ => 0)))) a
def nJ_ (w : Hp) (n : Int32) (B : Nat) (c : Hp → Nat → Prop) : Prop := ¬ n < 0 ∧ n.toNatClampNeg ≤ B ∧ ∀ a, w a = none → c (hu w a (.inl (2, n.toNatClampNeg, .inr (.inl (fun _ => 0))))) a
def nR_ (t : Nat) (w : Hp) (n : Int32) (B : Nat) (c : Hp → Nat → Prop) : Prop := ¬ n < 0 ∧ n.toNatClampNeg ≤ B ∧ ∀ a, w a = none → c (hu w a (.inl (t, n.toNatClampNeg, hr_ (fun _ => none)))) a
def isO (w : Hp) (a ci : Nat) (c : Prop) : Prop := (∃ fs, w a = some (.inr (ci, fs))) ∧ c
def ckO (w : Hp) (r : Option Nat) (ci : Nat) (c : Prop) : Prop := (∀ v, r = some v → ∃ fs, w v = some (.inr (ci, fs))) ∧ c
def ckI (w : Hp) (r : Option Nat) (c : Prop) : Prop := (∀ v, r = some v → ∃ x, w v = some (.inl (0, x))) ∧ c
def gE (w : Hp) (c : Nat → Prop) : Prop := ∀ a, w a = some roE → c a
/-- System.arraycopy of ints; of references -/
def cI (w : Hp) (a0 : Nat) (sp : Int32) (a : Nat) (dp n : Int32) (c : Hp → Prop) : Prop := ∃ n0 n1 f g, w a0 = some (.inl (0, n0, .inl f)) ∧ w a = some (.inl (0, n1, .inl g)) ∧ ¬ sp < 0 ∧ ¬ dp < 0 ∧ ¬ n < 0 ∧ sp.toNatClampNeg + n.toNatClampNeg ≤ n0 ∧ dp.toNatClampNeg + n.toNatClampNeg ≤ n1 ∧ c (hu w a (.inl (0, n1, .inl (va_cpy f g sp.toNatClampNeg dp.toNatClampNeg n.toNatClampNeg))))
def hAnyO (w : Hp) (y : Nat) : Prop := ∃ e, w y = some e ∧ hok 6 e
def cR (w : Hp) (a0 : Nat) (sp : Int32) (a : Nat) (dp n : Int32) (c : Hp → Prop) : Prop := ∃ n0 n1 f g, w a0 = some (.inl (6, n0, hr_ f)) ∧ w a = some (.inl (6, n1, hr_ g)) ∧ ¬ sp < 0 ∧ ¬ dp < 0 ∧ ¬ n < 0 ∧ sp.toNatClampNeg + n.toNatClampNeg ≤ n0 ∧ dp.toNatClampNeg + n.toNatClampNeg ≤ n1 ∧ (∀ i, i < n.toNatClampNeg → ∀ y, f (sp.toNatClampNeg + i) = some y → hAnyO w y) ∧ c (hu w a (.inl (6, n1, hr_ (va_cpy f g sp.toNatClampNeg dp.toNatClampNeg n.toNatClampNeg))))
/-- int[].clone() -/
def clI (w : Hp) (a : Nat) (B : Nat) (c : Hp → Nat → Prop) : Prop := ∃ n f, w a = some (.inl (0, n, .inl f)) ∧ n ≤ B ∧ ∀ b, w b = none → c (hu w b (.inl (0, n, .inl f))) b
/-! loops -/
def lpN {σ : Type} (step : (σ → Prop) → σ → Prop) : Nat → σ → Prop
  | 0, _ => False
  | n + 1, x => step (lpN step n) x
def lp {σ : Type} (step : (σ → Prop) → σ → Prop) (x : σ) : Prop := ∃ n, lpN step n x
theorem lpN_ind {σ : Type} {step : (σ → Prop) → σ → Prop} (I : σ → Prop) (μ : σ → Nat) (hs : ∀ x back, I x → (∀ y, I y → μ y < μ x → back y) → step back x) : ∀ n x, I x → μ x < n → lpN step n x := by
  intro n
  induction n with
  | zero => intro x _ h; omega
  | succ n ih => intro x hx hn; exact hs x _ hx (fun y hy hl => ih y hy (by omega))
theorem lp_ind {σ : Type} {step : (σ → Prop) → σ → Prop} (I : σ → Prop) (μ : σ → Nat) (hs : ∀ x back, I x → (∀ y, I y → μ y < μ x → back y) → step back x) (x : σ) (hx : I x) : lp step x := ⟨μ x + 1, lpN_ind I μ hs _ x hx (by omega)⟩
section HX
variable {p : Program} {l : Launch} {e : Env} {R : Room} {s : State} {m : MethodId} {args : Array Value} {below : List Frame} {meth : Method} {c : Code} {H : Heap} {locs : List Loc} {cells slots : Nat} {Q : State → Prop}
variable {cc : ByteArray} {pc nL : Nat} {ls : Array Slot} {rest st0 : List Value} {own : String} {G : hG} {w : Hp} {a : Nat}
theorem hx_aload (C0 : CallFix p m c cc nL s args lw_all own) {i : Nat} {r : Option Nat} (hdg : decode cc pc = .ok (.aload i, 2)) (hl : ls[i]? = some (.val (va_rf r)))
    (k : W p l e R s m args below meth c H locs cells slots Q (F0 m (pc + 2) ls (va_rf r :: rest))) : W p l e R s m args below meth c H locs cells slots Q (F0 m pc ls rest) := by
  cases r with
  | none => exact lv_aloadN C0.1 C0.2.1 hdg hl k
  | some x => exact lv_aload C0.1 C0.2.1 hdg hl k
theorem hx_aload_n (C0 : CallFix p m c cc nL s args lw_all own) {k : Fin 4} {i : Nat} {r : Option Nat} (hdg : decode cc pc = .ok (.aload_n k, 1)) (hi : (k : Nat) = i) (hl : ls[i]? = some (.val (va_rf r)))
    (k : W p l e R s m args below meth c H locs cells slots Q (F0 m (pc + 1) ls (va_rf r :: rest))) : W p l e R s m args below meth c H locs cells slots Q (F0 m pc ls rest) := by
  cases r with
  | none => exact lv_aload_nN C0.1 C0.2.1 hdg hi hl k
  | some x => exact lv_aload_n C0.1 C0.2.1 hdg hi hl k
theorem hx_astore (C0 : CallFix p m c cc nL s args lw_all own) {i n' : Nat} {r : Option Nat} {lv lv' : List (Nat × Value)} (hdg : decode cc pc = .ok (.astore i, 2)) (h : lv_has ls n' lv) (hn : i < n') (hl : (i, va_rf r) :: lv.filter (fun q => !(q.1 == i) && !(q.1 + 1 == i && q.2.category == 2)) = lv')
    (kk : ∀ ls' : Array Slot, lv_has ls' n' lv' → W p l e R s m args below meth c H locs cells slots Q (F0 m (pc + 2) ls' rest)) : W p l e R s m args below meth c H locs cells slots Q (F0 m pc ls (va_rf r :: rest)) := by
  cases r with
  | none => exact lv_astoreN C0.1 C0.2.1 hdg h hn hl kk
  | some x => exact lv_astore C0.1 C0.2.1 hdg h hn hl kk
theorem hx_astore_n (C0 : CallFix p m c cc nL s args lw_all own) {k : Fin 4} {i n' : Nat} {r : Option Nat} {lv lv' : List (Nat × Value)} (hdg : decode cc pc = .ok (.astore_n k, 1)) (hi : (k : Nat) = i) (h : lv_has ls n' lv) (hn : i < n') (hl : (i, va_rf r) :: lv.filter (fun q => !(q.1 == i) && !(q.1 + 1 == i && q.2.category == 2)) = lv')
    (kk : ∀ ls' : Array Slot, lv_has ls' n' lv' → W p l e R s m args below meth c H locs cells slots Q (F0 m (pc + 1) ls' rest)) : W p l e R s m args below meth c H locs cells slots Q (F0 m pc ls (va_rf r :: rest)) := by
  cases r with
  | none => exact lv_astore_nN C0.1 C0.2.1 hdg hi h hn hl kk
  | some x => exact lv_astore_n C0.1 C0.2.1 hdg hi h hn hl kk
theorem hx_ifnull (C0 : CallFix p m c cc nL s args lw_all own) {r : Option Nat} {off : Int} {tgt : Nat} (hdg : decode cc pc = .ok (.ifnull off, 3)) (ht : (pc : Int) + off = (tgt : Int))
    (kt : r = none → W p l e R s m args below meth c H locs cells slots Q (F0 m tgt ls rest)) (kf : ¬ r = none → W p l e R s m args below meth c H locs cells slots Q (F0 m (pc + 3) ls rest)) : W p l e R s m args below meth c H locs cells slots Q (F0 m pc ls (va_rf r :: rest)) := by
  cases r with
  | none => exact lv_ifnullN C0.1 C0.2.1 hdg ht (kt rfl)
  | some x => exact lv_ifnull C0.1 C0.2.1 hdg (kf (fun z => by cases z))
theorem hx_ifnonnull (C0 : CallFix p m c cc nL s args lw_all own) {r : Option Nat} {off : Int} {tgt : Nat} (hdg : decode cc pc = .ok (.ifnonnull off, 3)) (ht : (pc : Int) + off = (tgt : Int))
    (kt : ¬ r = none → W p l e R s m args below meth c H locs cells slots Q (F0 m tgt ls rest)) (kf : r = none → W p l e R s m args below meth c H locs cells slots Q (F0 m (pc + 3) ls rest)) : W p l e R s m args below meth c H locs cells slots Q (F0 m pc ls (va_rf r :: rest)) := by
  cases r with
  | none => exact lv_ifnonnullN C0.1 C0.2.1 hdg (kf rfl)
  | some x => exact lv_ifnonnull C0.1 C0.2.1 hdg ht (kt (fun z => by cases z))
theorem hx_rfc (r : Option Nat) : (va_rf r).category = 1 := by cases r <;> rfl
/-! fields -/
theorem hx_gV (C0 : CallFix p m c cc nL s args lw_all own) (hU : hx_U G s) (hH : hx_H G w s H locs) {C ref : String} {T : u_T} {N ci index : Nat} (hc : hC[ci]? = some (C, T, N)) (hin : ∀ w ∈ u_ws C T N, w ∈ lw_all) (k : Nat) (hk : k < N) (hlink : Cond.fieldLink own index ref (T k).2.1 (T k).2.2.1 ∈ lw_all) (hsame : ∀ x, s.fieldFound? (T k).1 (T k).2.1 (T k).2.2.1 = some x → s.fieldFound? ref (T k).2.1 (T k).2.2.1 = some x) {fs : List Value} {v : Value} (h : w a = some (.inr (ci, fs))) (h2 : fs[k]? = some v) (hdg : decode cc pc = .ok (.getfield index, 3))
    (kk : W p l e R s m args below meth c H locs cells slots Q (F0 m (pc + 3) ls (v :: rest))) : W p l e R s m args below meth c H locs cells slots Q (F0 m pc ls (va_rf (some a) :: rest)) :=
  va_get C0.1 C0.2.1 C0.2.2.2.2 hin C0.2.2.2.1 hU.1 (hx_one hU hH h) 0 rfl hc k hk (C0.2.2.2.2 _ hlink) hsame h2 hdg kk
theorem hx_gVN (C0 : CallFix p m c cc nL s args lw_all own) (hU : hx_U G s) (hH : hx_H G w s H locs) {C ref host : String} {T : u_T} {N ci index : Nat} (hc : hC[ci]? = some (C, T, N)) (hin : ∀ w ∈ u_ws C T N, w ∈ lw_all) (k : Nat) (hk : k < N) (hlink : Cond.fieldLinkNest own index ref (T k).2.1 (T k).2.2.1 host ∈ lw_tbl) (hsame : ∀ x, s.fieldFound? (T k).1 (T k).2.1 (T k).2.2.1 = some x → s.fieldFound? ref (T k).2.1 (T k).2.2.1 = some x) {fs : List Value} {v : Value} (h : w a = some (.inr (ci, fs))) (h2 : fs[k]? = some v) (hdg : decode cc pc = .ok (.getfield index, 3))
    (kk : W p l e R s m args below meth c H locs cells slots Q (F0 m (pc + 3) ls (v :: rest))) : W p l e R s m args below meth c H locs cells slots Q (F0 m pc ls (va_rf (some a) :: rest)) :=
  va_getN C0.1 C0.2.1 C0.2.2.2.2 hin C0.2.2.2.1 hU.1 (hx_one hU hH h) 0 rfl hc k hk (va_Nw.use rfl (hU.2.2.1 _ hlink rfl)) hsame h2 hdg kk
theorem hx_gI (C0 : CallFix p m c cc nL s args lw_all own) (hU : hx_U G s) (hH : hx_H G w s H locs) {C ref : String} {T : u_T} {N ci index : Nat} (hc : hC[ci]? = some (C, T, N)) (hin : ∀ w ∈ u_ws C T N, w ∈ lw_all) (k : Nat) (hk : k < N) (hlink : Cond.fieldLink own index ref (T k).2.1 (T k).2.2.1 ∈ lw_all) (hsame : ∀ x, s.fieldFound? (T k).1 (T k).2.1 (T k).2.2.1 = some x → s.fieldFound? ref (T k).2.1 (T k).2.2.1 = some x) {cont : Int32 → Prop} (h : gI w a ci k cont) (hdg : decode cc pc = .ok (.getfield index, 3))
    (kk : ∀ v, cont v → W p l e R s m args below meth c H locs cells slots Q (F0 m (pc + 3) ls (.int v :: rest))) : W p l e R s m args below meth c H locs cells slots Q (F0 m pc ls (va_rf (some a) :: rest)) := by
  obtain ⟨fs, v, h1, h2, h3⟩ := h
  exact hx_gV C0 hU hH hc hin k hk hlink hsame h1 h2 hdg (kk v h3)
theorem hx_gJ (C0 : CallFix p m c cc nL s args lw_all own) (hU : hx_U G s) (hH : hx_H G w s H locs) {C ref : String} {T : u_T} {N ci index : Nat} (hc : hC[ci]? = some (C, T, N)) (hin : ∀ w ∈ u_ws C T N, w ∈ lw_all) (k : Nat) (hk : k < N) (hlink : Cond.fieldLink own index ref (T k).2.1 (T k).2.2.1 ∈ lw_all) (hsame : ∀ x, s.fieldFound? (T k).1 (T k).2.1 (T k).2.2.1 = some x → s.fieldFound? ref (T k).2.1 (T k).2.2.1 = some x) {cont : Int64 → Prop} (h : gJ w a ci k cont) (hdg : decode cc pc = .ok (.getfield index, 3))
    (kk : ∀ v, cont v → W p l e R s m args below meth c H locs cells slots Q (F0 m (pc + 3) ls (.long v :: rest))) : W p l e R s m args below meth c H locs cells slots Q (F0 m pc ls (va_rf (some a) :: rest)) := by
  obtain ⟨fs, v, h1, h2, h3⟩ := h
  exact hx_gV C0 hU hH hc hin k hk hlink hsame h1 h2 hdg (kk v h3)
theorem hx_gR (C0 : CallFix p m c cc nL s args lw_all own) (hU : hx_U G s) (hH : hx_H G w s H locs) {C ref : String} {T : u_T} {N ci index : Nat} (hc : hC[ci]? = some (C, T, N)) (hin : ∀ w ∈ u_ws C T N, w ∈ lw_all) (k : Nat) (hk : k < N) (hlink : Cond.fieldLink own index ref (T k).2.1 (T k).2.2.1 ∈ lw_all) (hsame : ∀ x, s.fieldFound? (T k).1 (T k).2.1 (T k).2.2.1 = some x → s.fieldFound? ref (T k).2.1 (T k).2.2.1 = some x) {cont : Option Nat → Prop} (h : gR w a ci k cont) (hdg : decode cc pc = .ok (.getfield index, 3))
    (kk : ∀ v, cont v → W p l e R s m args below meth c H locs cells slots Q (F0 m (pc + 3) ls (va_rf v :: rest))) : W p l e R s m args below meth c H locs cells slots Q (F0 m pc ls (va_rf (some a) :: rest)) := by
  obtain ⟨fs, v, h1, h2, h3⟩ := h
  exact hx_gV C0 hU hH hc hin k hk hlink hsame h1 h2 hdg (kk v h3)
theorem hx_gIN (C0 : CallFix p m c cc nL s args lw_all own) (hU : hx_U G s) (hH : hx_H G w s H locs) {C ref host : String} {T : u_T} {N ci index : Nat} (hc : hC[ci]? = some (C, T, N)) (hin : ∀ w ∈ u_ws C T N, w ∈ lw_all) (k : Nat) (hk : k < N) (hlink : Cond.fieldLinkNest own index ref (T k).2.1 (T k).2.2.1 host ∈ lw_tbl) (hsame : ∀ x, s.fieldFound? (T k).1 (T k).2.1 (T k).2.2.1 = some x → s.fieldFound? ref (T k).2.1 (T k).2.2.1 = some x) {cont : Int32 → Prop} (h : gI w a ci k cont) (hdg : decode cc pc = .ok (.getfield index, 3))
    (kk : ∀ v, cont v → W p l e R s m args below meth c H locs cells slots Q (F0 m (pc + 3) ls (.int v :: rest))) : W p l e R s m args below meth c H locs cells slots Q (F0 m pc ls (va_rf (some a) :: rest)) := by
  obtain ⟨fs, v, h1, h2, h3⟩ := h
  exact hx_gVN C0 hU hH hc hin k hk hlink hsame h1 h2 hdg (kk v h3)
theorem hx_gRN (C0 : CallFix p m c cc nL s args lw_all own) (hU : hx_U G s) (hH : hx_H G w s H locs) {C ref host : String} {T : u_T} {N ci index : Nat} (hc : hC[ci]? = some (C, T, N)) (hin : ∀ w ∈ u_ws C T N, w ∈ lw_all) (k : Nat) (hk : k < N) (hlink : Cond.fieldLinkNest own index ref (T k).2.1 (T k).2.2.1 host ∈ lw_tbl) (hsame : ∀ x, s.fieldFound? (T k).1 (T k).2.1 (T k).2.2.1 = some x → s.fieldFound? ref (T k).2.1 (T k).2.2.1 = some x) {cont : Option Nat → Prop} (h : gR w a ci k cont) (hdg : decode cc pc = .ok (.getfield index, 3))
    (kk : ∀ v, cont v → W p l e R s m args below meth c H locs cells slots Q (F0 m (pc + 3) ls (va_rf v :: rest))) : W p l e R s m args below meth c H locs cells slots Q (F0 m pc ls (va_rf (some a) :: rest)) := by
  obtain ⟨fs, v, h1, h2, h3⟩ := h
  exact hx_gVN C0 hU hH hc hin k hk hlink hsame h1 h2 hdg (kk v h3)
theorem hx_pV (C0 : CallFix p m c cc nL s args lw_all own) (hU : hx_U G s) (hH : hx_H G w s H locs) {C ref : String} {T : u_T} {N ci index : Nat} (hc : hC[ci]? = some (C, T, N)) (hin : ∀ w ∈ u_ws C T N, w ∈ lw_all) (ty0 : Nat → FieldType) (hty : ∀ k, k < N → parseFieldDescriptor (T k).2.2.1 = some (ty0 k)) (hnm : ∀ a, a < N → ∀ b, b < N → a ≠ b → (T a).2.1 ≠ (T b).2.1) (k : Nat) (hk : k < N) (hlink : Cond.fieldLink own index ref (T k).2.1 (T k).2.2.1 ∈ lw_all) (hsame : ∀ x, s.fieldFound? (T k).1 (T k).2.1 (T k).2.2.1 = some x → s.fieldFound? ref (T k).2.1 (T k).2.2.1 = some x)
    (hfin : (T k).2.2.2 = false ∨ ((T k).2.2.2 = true ∧ meth.name = "<init>" ∧ (T k).1 = own)) {v : Value} (hn : narrow (ty0 k) v = v) (hfit : fits (ty0 k) v = true) {cont : Hp → Prop} (h : pV w a ci k v cont) (hdg : decode cc pc = .ok (.putfield index, 3))
    (kk : ∀ (w : Hp) (H : Heap) (locs : List Loc), hx_H G w s H locs → cont w → W p l e R s m args below meth c H locs cells slots Q (F0 m (pc + 3) ls rest)) : W p l e R s m args below meth c H locs cells slots Q (F0 m pc ls (v :: va_rf (some a) :: rest)) := by
  obtain ⟨fs, h1, h2, h3⟩ := h
  obtain ⟨q0, hq⟩ := hx_L_in (G := G) h1 rfl (hx_lt hU hH h1)
  rcases hfin with hf | ⟨hf, hf2, hf3⟩
  · exact va_put C0.1 C0.2.1 C0.2.2.2.2 hin ty0 hty hnm C0.2.2.2.1 hU.1 (hx_LP hU hH H.size) (hx_LD hU hH H.size) hH.2 q0 hq hc k hk (C0.2.2.2.2 _ hlink) hsame hf (hty k hk) hn hfit h2 hdg (fun H1 locs1 hP _ hS => kk _ H1 locs1 (hx_put hU hH h1 rfl (e1 := .inr (ci, fs.set k v)) rfl rfl hq hP hS) h3)
  · exact va_putF C0.1 C0.2.1 C0.2.2.2.2 hin ty0 hty hnm C0.2.2.2.1 hU.1 (hx_LP hU hH H.size) (hx_LD hU hH H.size) hH.2 q0 hq hc k hk (C0.2.2.2.2 _ hlink) hsame hf hf2 hf3 (hty k hk) hn hfit h2 hdg (fun H1 locs1 hP _ hS => kk _ H1 locs1 (hx_put hU hH h1 rfl (e1 := .inr (ci, fs.set k v)) rfl rfl hq hP hS) h3)
theorem hx_pVN (C0 : CallFix p m c cc nL s args lw_all own) (hU : hx_U G s) (hH : hx_H G w s H locs) {C ref host : String} {T : u_T} {N ci index : Nat} (hc : hC[ci]? = some (C, T, N)) (hin : ∀ w ∈ u_ws C T N, w ∈ lw_all) (ty0 : Nat → FieldType) (hty : ∀ k, k < N → parseFieldDescriptor (T k).2.2.1 = some (ty0 k)) (hnm : ∀ a, a < N → ∀ b, b < N → a ≠ b → (T a).2.1 ≠ (T b).2.1) (k : Nat) (hk : k < N) (hlink : Cond.fieldLinkNest own index ref (T k).2.1 (T k).2.2.1 host ∈ lw_tbl) (hsame : ∀ x, s.fieldFound? (T k).1 (T k).2.1 (T k).2.2.1 = some x → s.fieldFound? ref (T k).2.1 (T k).2.2.1 = some x)
    (hfin : (T k).2.2.2 = false) {v : Value} (hn : narrow (ty0 k) v = v) (hfit : fits (ty0 k) v = true) {cont : Hp → Prop} (h : pV w a ci k v cont) (hdg : decode cc pc = .ok (.putfield index, 3))
    (kk : ∀ (w : Hp) (H : Heap) (locs : List Loc), hx_H G w s H locs → cont w → W p l e R s m args below meth c H locs cells slots Q (F0 m (pc + 3) ls rest)) : W p l e R s m args below meth c H locs cells slots Q (F0 m pc ls (v :: va_rf (some a) :: rest)) := by
  obtain ⟨fs, h1, h2, h3⟩ := h
  obtain ⟨q0, hq⟩ := hx_L_in (G := G) h1 rfl (hx_lt hU hH h1)
  exact va_putN C0.1 C0.2.1 C0.2.2.2.2 hin ty0 hty hnm C0.2.2.2.1 hU.1 (hx_LP hU hH H.size) (hx_LD hU hH H.size) hH.2 q0 hq hc k hk (va_Nw.use rfl (hU.2.2.1 _ hlink rfl)) hsame hfin (hty k hk) hn hfit h2 hdg (fun H1 locs1 hP _ hS => kk _ H1 locs1 (hx_put hU hH h1 rfl (e1 := .inr (ci, fs.set k v)) rfl rfl hq hP hS) h3)
theorem hx_fz {v : Int32} (h : v = 0 ∨ v = 1) : narrow .boolean (.int v) = .int v ∧ fits .boolean (.int v) = true := by
  rcases h with h | h <;> subst h <;> exact ⟨by decide, by decide⟩
theorem hx_fo (n : String) (r : Option Nat) : narrow (.object n) (va_rf r) = va_rf r ∧ fits (.object n) (va_rf r) = true := by cases r <;> exact ⟨rfl, rfl⟩
theorem hx_fa (t : FieldType) (r : Option Nat) : narrow (.array t) (va_rf r) = va_rf r ∧ fits (.array t) (va_rf r) = true := by cases r <;> exact ⟨rfl, rfl⟩
/-! arrays -/
theorem hx_aI (C0 : CallFix p m c cc nL s args lw_all own) (hU : hx_U G s) (hH : hx_H G w s H locs) {i : Int32} {cont : Int32 → Prop} (h : aI w a i cont) (hdg : decode cc pc = .ok (.iaload, 1))
    (kk : ∀ v, cont v → W p l e R s m args below meth c H locs cells slots Q (F0 m (pc + 1) ls (.int v :: rest))) : W p l e R s m args below meth c H locs cells slots Q (F0 m pc ls (.int i :: va_rf (some a) :: rest)) := by
  obtain ⟨n, f, h1, h2, h3⟩ := h
  exact va_iald C0.1 C0.2.1 hU.1 (hx_one hU hH h1) 0 0 rfl rfl h2 hdg (kk _ h3)
theorem hx_aZ (C0 : CallFix p m c cc nL s args lw_all own) (hU : hx_U G s) (hH : hx_H G w s H locs) {i : Int32} {cont : Int32 → Prop} (h : aZ w a i cont) (hdg : decode cc pc = .ok (.baload, 1))
    (kk : ∀ v, cont v → W p l e R s m args below meth c H locs cells slots Q (F0 m (pc + 1) ls (.int v :: rest))) : W p l e R s m args below meth c H locs cells slots Q (F0 m pc ls (.int i :: va_rf (some a) :: rest)) := by
  obtain ⟨n, f, h1, h2, h3⟩ := h
  exact va_zald C0.1 C0.2.1 hU.1 (hx_one hU hH h1) 0 1 rfl rfl h2 hdg (kk _ h3)
theorem hx_aJ (C0 : CallFix p m c cc nL s args lw_all own) (hU : hx_U G s) (hH : hx_H G w s H locs) {i : Int32} {cont : Int64 → Prop} (h : aJ w a i cont) (hdg : decode cc pc = .ok (.laload, 1))
    (kk : ∀ v, cont v → W p l e R s m args below meth c H locs cells slots Q (F0 m (pc + 1) ls (.long v :: rest))) : W p l e R s m args below meth c H locs cells slots Q (F0 m pc ls (.int i :: va_rf (some a) :: rest)) := by
  obtain ⟨n, f, h1, h2, h3⟩ := h
  exact va_lald C0.1 C0.2.1 hU.1 (hx_one hU hH h1) 0 2 rfl rfl h2 hdg (kk _ h3)
theorem hx_aR (C0 : CallFix p m c cc nL s args lw_all own) (hU : hx_U G s) (hH : hx_H G w s H locs) {i : Int32} {cont : Option Nat → Prop} (h : aR w a i cont) (hdg : decode cc pc = .ok (.aaload, 1))
    (kk : ∀ v, cont v → W p l e R s m args below meth c H locs cells slots Q (F0 m (pc + 1) ls (va_rf v :: rest))) : W p l e R s m args below meth c H locs cells slots Q (F0 m pc ls (.int i :: va_rf (some a) :: rest)) := by
  obtain ⟨t, n, f, t1, t2, h1, hin, h3⟩ := h
  have hlt : i.toNatClampNeg < n := Nat.not_le.mp fun q => hin (Or.inr q)
  have hP := hx_one hU hH h1
  exact W.aald (v := va_rf (f i.toNatClampNeg)) (ty := hT t) C0.1 C0.2.1 (hP 0 _ rfl) ((hU.1.2 t _ (hTy_at (hG_A G) t2)).1 n (fun j => va_rf (f j))) (hT_ref t1 t2) (fun q => by cases q) (by show ¬ (i < 0 ∨ (arrV _ _ _).slots.size ≤ _); rw [arrV_size]; exact hin) (by show (arrV _ _ _).slots[_]? = _; rw [arrV_read _ _ hlt]) rfl rfl hdg (kk _ h3)
theorem hx_aN (C0 : CallFix p m c cc nL s args lw_all own) (hU : hx_U G s) (hH : hx_H G w s H locs) {cont : Int32 → Prop} (h : aN w a cont) (hdg : decode cc pc = .ok (.arraylength, 1))
    (kk : ∀ v, cont v → W p l e R s m args below meth c H locs cells slots Q (F0 m (pc + 1) ls (.int v :: rest))) : W p l e R s m args below meth c H locs cells slots Q (F0 m pc ls (va_rf (some a) :: rest)) := by
  obtain ⟨t, n, x, h1, t2, h3⟩ := h
  exact va_alen C0.1 C0.2.1 hU.1 (hx_one hU hH h1) 0 t rfl (hTy_at (hG_A G) t2) rfl hdg (kk _ h3)
theorem hx_sI (C0 : CallFix p m c cc nL s args lw_all own) (hU : hx_U G s) (hH : hx_H G w s H locs) {i x : Int32} {cont : Hp → Prop} (h : sI w a i x cont) (hdg : decode cc pc = .ok (.iastore, 1))
    (kk : ∀ (w : Hp) (H : Heap) (locs : List Loc), hx_H G w s H locs → cont w → W p l e R s m args below meth c H locs cells slots Q (F0 m (pc + 1) ls rest)) : W p l e R s m args below meth c H locs cells slots Q (F0 m pc ls (.int x :: .int i :: va_rf (some a) :: rest)) := by
  obtain ⟨n, f, h1, h2, h3⟩ := h
  obtain ⟨q0, hq⟩ := hx_L_in (G := G) h1 rfl (hx_lt hU hH h1)
  exact va_iast C0.1 C0.2.1 hU.1 (hx_LP hU hH H.size) (hx_LD hU hH H.size) hH.2 q0 0 hq rfl h2 hdg (fun H1 locs1 hP _ hS => kk _ H1 locs1 (hx_put hU hH h1 rfl (e1 := .inl (0, n, .inl (upd f i.toNatClampNeg x))) rfl rfl hq hP hS) h3)
theorem hx_sJ (C0 : CallFix p m c cc nL s args lw_all own) (hU : hx_U G s) (hH : hx_H G w s H locs) {i : Int32} {x : Int64} {cont : Hp → Prop} (h : sJ w a i x cont) (hdg : decode cc pc = .ok (.lastore, 1))
    (kk : ∀ (w : Hp) (H : Heap) (locs : List Loc), hx_H G w s H locs → cont w → W p l e R s m args below meth c H locs cells slots Q (F0 m (pc + 1) ls rest)) : W p l e R s m args below meth c H locs cells slots Q (F0 m pc ls (.long x :: .int i :: va_rf (some a) :: rest)) := by
  obtain ⟨n, f, h1, h2, h3⟩ := h
  obtain ⟨q0, hq⟩ := hx_L_in (G := G) h1 rfl (hx_lt hU hH h1)
  exact va_last C0.1 C0.2.1 hU.1 (hx_LP hU hH H.size) (hx_LD hU hH H.size) hH.2 q0 2 hq rfl h2 hdg (fun H1 locs1 hP _ hS => kk _ H1 locs1 (hx_put hU hH h1 rfl (e1 := .inl (2, n, .inr (.inl (vp_updL f i.toNatClampNeg x)))) rfl rfl hq hP hS) h3)
theorem hx_sZ (C0 : CallFix p m c cc nL s args lw_all own) (hU : hx_U G s) (hH : hx_H G w s H locs) {i x : Int32} {cont : Hp → Prop} (h : sZ w a i x cont) (hdg : decode cc pc = .ok (.bastore, 1))
    (kk : ∀ (w : Hp) (H : Heap) (locs : List Loc), hx_H G w s H locs → cont w → W p l e R s m args below meth c H locs cells slots Q (F0 m (pc + 1) ls rest)) : W p l e R s m args below meth c H locs cells slots Q (F0 m pc ls (.int x :: .int i :: va_rf (some a) :: rest)) := by
  obtain ⟨hx, n, f, h1, h2, h3⟩ := h
  obtain ⟨q0, hq⟩ := hx_L_in (G := G) h1 rfl (hx_lt hU hH h1)
  have hv : vp_nar .boolean x = x := by rcases hx with z | z <;> subst z <;> decide
  refine va_zast C0.1 C0.2.1 hU.1 (hx_LP hU hH H.size) (hx_LD hU hH H.size) hH.2 q0 1 hq rfl h2 hdg (fun H1 locs1 hP _ hS => ?_)
  rw [hv] at hP
  exact kk _ H1 locs1 (hx_put hU hH h1 rfl (e1 := .inl (1, n, .inl (upd f i.toNatClampNeg x))) rfl rfl hq hP hS) h3
end HX
