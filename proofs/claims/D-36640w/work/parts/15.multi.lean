/-! multianewarray, any number of dimensions -/
set_option maxRecDepth 100000
def mkC : List Nat → Nat
  | [] => 0
  | [_] => 1
  | n :: r => 1 + n * mkC r
def mkS : List Nat → Nat
  | [] => 0
  | [n] => n
  | n :: r => n + n * mkS r
def zeroOf (t : Nat) : (Nat → Int32) ⊕ (Nat → Int64) ⊕ (Nat → UInt32) ⊕ (Nat → UInt64) ⊕ (Nat → Option Nat) := if t < 2 then .inl (fun _ => 0) else hr_ (fun _ => none)
def hJ' (t : Nat) : Nat := (hJ t).getD 99
def nMf (mk : Hp → (Hp → Nat → Prop) → Prop) (t a n : Nat) : Nat → Nat → (Nat → Option Nat) → Hp → (Hp → Prop) → Prop
  | 0, _, _, w, c => c w
  | k + 1, i, f, w, c => mk w fun w b => nMf mk t a n k (i + 1) (va_up f i (some b)) (hu w a (.inl (t, n, hr_ (va_up f i (some b))))) c
/-- the arrays of a multianewarray, in the machine's order -/
def nMk : List Nat → Nat → Hp → (Hp → Nat → Prop) → Prop
  | [], _, _, _ => False
  | [n], t, w, c => ∀ a, w a = none → c (hu w a (.inl (t, n, zeroOf t))) a
  | n :: n2 :: r, t, w, c => ∀ a, w a = none → nMf (nMk (n2 :: r) (hJ' t)) t a n n 0 (fun _ => none) (hu w a (.inl (t, n, hr_ (fun _ => none)))) (fun w => c w a)
def mkOk : List Nat → Nat → Bool
  | [], _ => false
  | [n], t => decide (n ≤ 1000) && (decide (t < 2) || (decide (3 ≤ t) && decide (t < 13)))
  | n :: n2 :: r, t => decide (n ≤ 1000) && decide (3 ≤ t) && decide (t < 13) && (hJ t).isSome && mkOk (n2 :: r) (hJ' t)
section HXM
variable {p : Program} {l : Launch} {e : Env} {R : Room} {s : State} {m : MethodId} {args : Array Value} {below : List Frame} {meth : Method} {c : Code} {G : hG} {g : JFrame}
theorem hx_nIc {n : Nat} (h : n ≤ 1000) : ¬ nI n < 0 ∧ (nI n).toNatClampNeg = n := ⟨nI_pos (by omega), nI_clamp (by omega)⟩
theorem hx_zd {t : Nat} (ht : t < 2 ∨ (3 ≤ t ∧ t < 13)) : fits (hT t) (defaultValue (hT t)) = true ∧ (defaultValue (hT t)).isDefault = true ∧ componentBytes (hT t) ≤ 4 ∧ ∀ cA n, vp_cell cA (n, zeroOf t) = arrV cA n (fun _ => defaultValue (hT t)) := by
  have : t = 0 ∨ t = 1 ∨ t = 3 ∨ t = 4 ∨ t = 5 ∨ t = 6 ∨ t = 7 ∨ t = 8 ∨ t = 9 ∨ t = 10 ∨ t = 11 ∨ t = 12 := by omega
  rcases this with z | z | z | z | z | z | z | z | z | z | z | z <;> subst z <;> exact ⟨by decide, by decide, by decide, fun _ _ => rfl⟩
def storeT (T : State) (h i : Nat) (v : Value) : State := match T.heap[h]? with
  | some cv => T.setCell h (cv.setSlot i v)
  | none => T
def fillT (mk : State → State) (h : Nat) (T0 : State) : Nat → State
  | 0 => T0
  | i + 1 => storeT (mk (fillT mk h T0 i)) h i (.ref (fillT mk h T0 i).heap.size)
def mkT (dA : Nat → ClassId) : List Nat → Nat → State → State
  | [], _, T => T
  | [n], t, T => T.pushCell { cls := dA t, slots := Array.replicate n (defaultValue (hT t)), vm := .none }
  | n :: n2 :: r, t, T => fillT (mkT dA (n2 :: r) (hJ' t)) T.heap.size (T.pushCell { cls := dA t, slots := Array.replicate n Value.null, vm := .none }) n
theorem mkOk_le : ∀ (ds : List Nat) (t9 : Nat), mkOk ds t9 = true → ∀ k ∈ ds, k ≤ 1000 := by
  intro ds
  induction ds with
  | nil => intro t9 h9; cases h9
  | cons a b ihb =>
    intro t9 h9 k hk
    cases b with
    | nil =>
      simp only [mkOk, Bool.and_eq_true, decide_eq_true_eq] at h9
      rcases List.mem_cons.mp hk with q | q
      · rw [q]; exact h9.1
      · cases q
    | cons b1 b2 =>
      simp only [mkOk, Bool.and_eq_true, decide_eq_true_eq] at h9
      rcases List.mem_cons.mp hk with q | q
      · rw [q]; exact h9.1.1.1.1
      · exact ihb _ h9.2 k q
theorem hx_mk (hU : hx_U G s) : ∀ (dims : List Nat) (t : Nat), mkOk dims t = true → ∀ (T : State) (locs : List Loc) (cells slots : Nat) (w : Hp) (cont : Hp → Nat → Prop), Stand p l e R s m args below meth c T locs cells slots → hx_H G w s T.heap locs → nMk dims t w cont → cells + mkC dims ≤ R.cells → slots + mkS dims ≤ R.slots →
    ∃ (w' : Hp) (locs' : List Loc), Stand p l e R s m args below meth c (mkT (hG_A G) dims t T) locs' (cells + mkC dims) (slots + mkS dims) ∧ hx_H G w' s (mkT (hG_A G) dims t T).heap locs' ∧ (∀ x e, w x = some e → w' x = some e) ∧ cont w' T.heap.size ∧
      ∀ (E : CtlPost) (Q : Addr → Pre) (d : Bool) (acts : List Action), (∀ (d' : Bool) (acts' : List Action), Q T.heap.size d' acts' ((mkT (hG_A G) dims t T).setTop g)) → wp (multianewarray.make (hG_A G t) (dims.map nI)) Q E e d acts (T.setTop g) := by
  intro dims
  induction dims with
  | nil => intro t hok; cases hok
  | cons n r ih =>
    intro t hok T locs cells slots w cont X hH h hc hs
    cases r with
    | nil =>
      simp only [mkOk, Bool.and_eq_true, Bool.or_eq_true, decide_eq_true_eq] at hok
      obtain ⟨hn, ht⟩ := hok
      obtain ⟨hn0, hnc⟩ := hx_nIc hn
      obtain ⟨z1, z2, z3, z4⟩ := hx_zd ht
      obtain ⟨-, kA, hkA, comp, hkind⟩ := State.isArrayOf_alike X.warmed.alike ((hU.1.2 t _ (hTy_at (hG_A G) (by omega))).1 0 (fun _ => .null))
      obtain ⟨hr1, hr2⟩ := X.roomAbove (show cells + 1 ≤ R.cells from hc) (show slots + n ≤ R.slots from hs)
      have X' := X.pushed { cls := hG_A G t, slots := Array.replicate n (defaultValue (hT t)), vm := .none }
      obtain ⟨h9, hH9⟩ := hx_push hU hH (e1 := .inl (t, n, zeroOf t)) (H1 := (T.pushCell { cls := hG_A G t, slots := Array.replicate n (defaultValue (hT t)), vm := .none }).heap) (locs1 := locs) (decide_eq_true (show t < 13 by omega)) (fun q hq => State.heap_pushCell_of_lt _ _ hq) (by rw [size_pushCell]; omega) (by
        show (T.pushCell _).heap[T.heap.size]? = some (vp_cell _ _)
        rw [z4, State.heap_pushCell_size, ← arrV_new]) (fun q h => Or.inl h)
      refine ⟨_, locs, by simpa [mkC, mkS, mkT] using X', hH9, fun x e hx => ?_, h _ h9, fun E Q d acts hq => ?_⟩
      · rw [hu_n]
        · exact hx
        · intro z; rw [z, h9] at hx; cases hx
      · show wp (multianewarray.make (hG_A G t) [nI n]) Q E e d acts (T.setTop g)
        rw [multianewarray.make]
        simp only [wp_bind', W.ite, hn0, if_false, wp_pure', W.theClass, State.vm_setTop, show T.vm.classes[hG_A G t]? = some kA from hkA, hkind, Option.some.injEq, exists_eq_left']
        refine Jvm.Free.Multi.wp_newArray (show (T.setTop g).vm.classes[hG_A G t]? = some kA from hkA) hkind (by rw [Launch.admits_arrayLengthLimit X.admits, hnc]; omega) (by rw [Launch.admits_maxHeapBytes X.admits, hnc]; have h8 := Nat.mul_le_mul hn z3; show ¬ n * componentBytes (hT t) > _; omega) z1 z2 (by rw [State.heap_setTop]; omega) (by rw [State.slotsUsed_setTop, hnc]; exact hr2) ?_
        rw [hnc, State.heap_setTop, State.pushCell_setTop]
        exact hq _ _
    | cons n2 r2 =>
      simp only [mkOk, Bool.and_eq_true, decide_eq_true_eq] at hok
      obtain ⟨⟨⟨⟨hn, ht3⟩, ht13⟩, hj⟩, hok2⟩ := hok
      obtain ⟨hn0, hnc⟩ := hx_nIc hn
      obtain ⟨z1, z2, z3, z4⟩ := hx_zd (Or.inr ⟨ht3, ht13⟩)
      obtain ⟨j, hj⟩ := Option.isSome_iff_exists.mp hj
      have hj' : hJ' t = j := by simp [hJ', hj]
      rw [hj'] at hok2
      obtain ⟨kA0, hkA0, hkind0⟩ := hU.2.1 t j hj
      obtain ⟨kA, hkA, heA⟩ := X.warmed.alike.2.2 _ _ hkA0
      have hkind : kA.kind = .array (hG_A G j) (hT t) := by rw [heA]; exact hkind0
      have hcm : mkC (n :: n2 :: r2) = 1 + n * mkC (n2 :: r2) := rfl
      have hsm : mkS (n :: n2 :: r2) = n + n * mkS (n2 :: r2) := rfl
      rw [hcm] at hc ⊢
      rw [hsm] at hs ⊢
      obtain ⟨hr1, hr2⟩ := X.roomAbove (show cells + 1 ≤ R.cells by omega) (show slots + n ≤ R.slots by omega)
      have hdv : defaultValue (hT t) = .null := by
        have : t = 3 ∨ t = 4 ∨ t = 5 ∨ t = 6 ∨ t = 7 ∨ t = 8 ∨ t = 9 ∨ t = 10 ∨ t = 11 ∨ t = 12 := by omega
        rcases this with z | z | z | z | z | z | z | z | z | z <;> subst z <;> rfl
      have X0 := X.pushed { cls := hG_A G t, slots := Array.replicate n Value.null, vm := .none }
      obtain ⟨h9, hH0⟩ := hx_push hU hH (e1 := .inl (t, n, hr_ (fun _ => none))) (H1 := (T.pushCell { cls := hG_A G t, slots := Array.replicate n Value.null, vm := .none }).heap) (locs1 := locs) (decide_eq_true ht13) (fun q hq => State.heap_pushCell_of_lt _ _ hq) (by rw [size_pushCell]; omega) (by
        show (T.pushCell _).heap[T.heap.size]? = some (vp_cell _ _)
        rw [vp_cell_q, State.heap_pushCell_size]
        show some _ = some (arrV _ _ _)
        rw [← arrV_new]
        rfl) (fun q h => Or.inl h)
      have hfill := h _ h9
      have hkeep0 : ∀ x e, w x = some e → hu w T.heap.size (.inl (t, n, hr_ (fun _ => none))) x = some e := by
        intro x e hx
        rw [hu_n]
        · exact hx
        · intro z; rw [z, h9] at hx; cases hx
      rw [hj'] at hfill
      have hmt : mkT (hG_A G) (n :: n2 :: r2) t T = fillT (mkT (hG_A G) (n2 :: r2) j) T.heap.size (T.pushCell { cls := hG_A G t, slots := Array.replicate n Value.null, vm := .none }) n := by rw [← hj']; rfl
      rw [hmt]
      generalize hT0 : T.pushCell { cls := hG_A G t, slots := Array.replicate n Value.null, vm := .none } = T0 at X0 hH0
      have hm1 : ∀ x, x < n → x * mkC (n2 :: r2) + mkC (n2 :: r2) ≤ n * mkC (n2 :: r2) := by
        intro x hlt
        have := Nat.mul_le_mul_right (mkC (n2 :: r2)) (show x + 1 ≤ n from hlt)
        rw [Nat.succ_mul] at this; exact this
      have hm2 : ∀ x, x < n → x * mkS (n2 :: r2) + mkS (n2 :: r2) ≤ n * mkS (n2 :: r2) := by
        intro x hlt
        have := Nat.mul_le_mul_right (mkS (n2 :: r2)) (show x + 1 ≤ n from hlt)
        rw [Nat.succ_mul] at this; exact this
      obtain ⟨Ti, hTi⟩ : ∃ f, f = fillT (mkT (hG_A G) (n2 :: r2) j) T.heap.size T0 := ⟨_, rfl⟩
      have hTs : ∀ i, Ti (i + 1) = storeT (mkT (hG_A G) (n2 :: r2) j (Ti i)) T.heap.size i (.ref (Ti i).heap.size) := by intro i; rw [hTi]; rfl
      have hTz : Ti 0 = T0 := by rw [hTi]; rfl
      have F : ∀ i, i ≤ n → ∃ (wi : Hp) (fi : Nat → Option Nat) (li : List Loc), Stand p l e R s m args below meth c (Ti i) li (cells + 1 + i * mkC (n2 :: r2)) (slots + n + i * mkS (n2 :: r2)) ∧ hx_H G wi s (Ti i).heap li ∧ wi T.heap.size = some (.inl (t, n, hr_ fi)) ∧ (∀ x e, w x = some e → wi x = some e) ∧ nMf (nMk (n2 :: r2) j) t T.heap.size n (n - i) i fi wi (fun w => cont w T.heap.size) := by
        intro i
        induction i with
        | zero =>
          intro _
          rw [hTz]
          exact ⟨_, _, locs, by simpa using X0, hH0, hu_s, hkeep0, hfill⟩
        | succ x ihx =>
          intro hlt
          have hlt : x < n := hlt
          obtain ⟨wi, fi, li, Xi, hHi, hai, hki, hfi⟩ := ihx (by omega)
          rw [show n - x = (n - (x + 1)) + 1 from by omega] at hfi
          obtain ⟨w', l', X', hH', hk', hf', -⟩ := ih j hok2 (Ti x) li _ _ wi _ Xi hHi hfi (by have := hm1 x hlt; omega) (by have := hm2 x hlt; omega)
          have ha' : w' T.heap.size = some (.inl (t, n, hr_ fi)) := hk' _ _ hai
          rw [hTs]
          generalize mkT (hG_A G) (n2 :: r2) j (Ti x) = T' at X' hH'
          generalize (Ti x).heap.size = b at hf'
          have hP := hx_LP hU hH' T'.heap.size
          have hD := hx_LD hU hH' T'.heap.size
          obtain ⟨q0, hq0⟩ := hx_L_in (G := G) ha' (decide_eq_true ht13) (hx_lt hU hH' ha')
          have hcell : T'.heap[T.heap.size]? = some (arrV (hG_A G t) n (fun j => va_rf (fi j))) := hx_at hU hH' ha'
          have hst : storeT T' T.heap.size x (.ref b) = T'.setCell T.heap.size ((arrV (hG_A G t) n (fun j => va_rf (fi j))).setSlot x (.ref b)) := by unfold storeT; rw [hcell]
          rw [hst]
          have X2 := X'.stored hcell x (.ref b)
          have hlt9 : T.heap.size < T'.heap.size := (Array.getElem?_eq_some_iff.mp hcell).1
          refine ⟨_, va_up fi x (some b), l' ++ [⟨T.heap.size, x⟩], ?_, ?_, hu_s, ?_, hf'⟩
          · rw [show cells + 1 + (x + 1) * mkC (n2 :: r2) = cells + 1 + x * mkC (n2 :: r2) + mkC (n2 :: r2) by rw [Nat.succ_mul]; omega, show slots + n + (x + 1) * mkS (n2 :: r2) = slots + n + x * mkS (n2 :: r2) + mkS (n2 :: r2) by rw [Nat.succ_mul]; omega]
            exact X2
          · refine hx_put hU hH' ha' (decide_eq_true ht13) (e1 := .inl (t, n, hr_ (va_up fi x (some b)))) (decide_eq_true ht13) rfl hq0 (hP.set hD hq0 ?_ (fun q hq => heapAt_setCell_ne _ (Ne.symm hq))) (hH'.2.put (size_setCell _ _ _) (fun q hq => heapAt_setCell_ne _ (Ne.symm hq)) (hD.2 q0 _ hq0))
            show (T'.setCell _ _).heap[T.heap.size]? = some (vp_cell _ _)
            rw [heapAt_setCell_self _ hlt9, vp_cell_q]
            show some ((arrV (hG_A G t) n (fun j => va_rf (fi j))).setSlot x (Value.ref b)) = _
            rw [arrV_store]
            congr 2
            funext q
            by_cases hq : q = x
            · subst hq
              simp [updV, va_up, va_rf]
            · simp [updV, va_up, hq]
          · intro y ey hy
            rw [hu_n]
            · exact hk' _ _ (hki _ _ hy)
            · intro z; rw [z, h9] at hy; cases hy
      obtain ⟨wn, fn, ln, Xn, hHn, han, hkn, hfn⟩ := F n (Nat.le_refl n)
      rw [Nat.sub_self] at hfn
      refine ⟨wn, ln, ?_, by rw [← hTi]; exact hHn, hkn, hfn, fun E Q d acts hq => ?_⟩
      · rw [← hTi, ← Nat.add_assoc, ← Nat.add_assoc]
        exact Xn
      · rw [← hTi] at hq
        have hfind2 : List.find? (fun x => decide (x < 0)) (nI n2 :: List.map nI r2) = none := by
          show List.find? _ ((n2 :: r2).map nI) = none
          rw [List.find?_eq_none]
          intro x hx
          obtain ⟨k, hk, rfl⟩ := List.mem_map.mp hx
          have := (hx_nIc (mkOk_le _ _ hok2 k hk)).1
          simp [this]
        show wp (multianewarray.make (hG_A G t) (nI n :: nI n2 :: r2.map nI)) Q E e d acts (T.setTop g)
        rw [multianewarray.make]
        simp only [wp_bind', W.ite, hn0, if_false, wp_pure', W.theClass, State.vm_setTop, show T.vm.classes[hG_A G t]? = some kA from hkA, hkind, Option.some.injEq, exists_eq_left']
        refine Jvm.Free.Multi.wp_newArray (show (T.setTop g).vm.classes[hG_A G t]? = some kA from hkA) hkind (by rw [Launch.admits_arrayLengthLimit X.admits, hnc]; omega) (by rw [Launch.admits_maxHeapBytes X.admits, hnc]; have h8 := Nat.mul_le_mul hn z3; show ¬ n * componentBytes (hT t) > _; omega) (by rw [hdv] at z1; exact z1) rfl (by rw [State.heap_setTop]; omega) (by rw [State.slotsUsed_setTop, hnc]; exact hr2) ?_
        rw [hnc, State.heap_setTop, State.pushCell_setTop, hT0]
        simp only [hfind2]
        rw [ite_self, wp_bind', Std.Legacy.Range.forIn_eq_forIn_range']
        have hsz : ([:n] : Std.Legacy.Range).size = n := by simp [Std.Legacy.Range.size]
        rw [hsz]
        show wp (forIn (List.range' 0 n 1) PUnit.unit _) _ E e d acts _
        refine wp_forIn_inv (fun rest s' => ∃ i, i ≤ n ∧ rest = List.range' i (n - i) ∧ s' = (Ti i).setTop g) _ _ ⟨0, Nat.zero_le _, rfl, by rw [hTz]⟩ ?_ ?_
        · rintro x rest s' d' acts' Q' ⟨i, hi, hlst, rfl⟩ hnext
          have hlt : i < n := by
            rcases Nat.lt_or_ge i n with h | h
            · exact h
            · rw [show n - i = 0 from by omega] at hlst; simp at hlst
          obtain ⟨rfl, hrest⟩ : x = i ∧ rest = List.range' (i + 1) (n - (i + 1)) := by
            rw [show n - i = (n - (i + 1)) + 1 from by omega, List.range'_succ] at hlst
            exact ⟨(List.cons.inj hlst).1, (List.cons.inj hlst).2⟩
          obtain ⟨wi, fi, li, Xi, hHi, hai, hki, hfi⟩ := F x (by omega)
          rw [show n - x = (n - (x + 1)) + 1 from by omega] at hfi
          obtain ⟨w', l', X', hH', hk', hf', hwp⟩ := ih j hok2 (Ti x) li _ _ wi _ Xi hHi hfi (by have := hm1 x hlt; omega) (by have := hm2 x hlt; omega)
          have ha' : w' T.heap.size = some (.inl (t, n, hr_ fi)) := hk' _ _ hai
          have hTs' := hTs x
          simp only [wp_bind']
          refine hwp _ _ _ _ (fun d2 acts2 => ?_)
          generalize mkT (hG_A G) (n2 :: r2) j (Ti x) = T' at X' hH' hTs' ⊢
          generalize (Ti x).heap.size = b at hTs' ⊢
          have hcell : T'.heap[T.heap.size]? = some (arrV (hG_A G t) n (fun j => va_rf (fi j))) := hx_at hU hH' ha'
          have hst : storeT T' T.heap.size x (.ref b) = T'.setCell T.heap.size ((arrV (hG_A G t) n (fun j => va_rf (fi j))).setSlot x (.ref b)) := by unfold storeT; rw [hcell]
          obtain ⟨kA', hkA', heA'⟩ := X'.warmed.alike.2.2 _ _ hkA0
          have hkind' : kA'.kind = .array (hG_A G j) (hT t) := by rw [heA']; exact hkind0
          simp only [wp_bind', W.writeLoc, wp_pure']
          refine ⟨_, (show (T'.setTop g).heap[T.heap.size]? = _ from hcell), (fun z => by cases z), by rw [arrV_size]; exact hlt, ?_, ?_⟩
          · have href := hT_ref ht3 (show t < 14 by omega)
            simp [State.fitsSlot, State.slotType?, arrV, hkA', hkind', Jvm.Free.Multi.refFits href _ (Or.inr ⟨_, rfl⟩)]
          · rw [State.setCell_setTop]
            exact hnext _ _ _ ⟨x + 1, hlt, hrest, by rw [hTs', hst]⟩
        · rintro s' d' acts' ⟨i, hi, hlst, rfl⟩
          have hiN : i = n := by
            rcases Nat.lt_or_ge i n with h | h
            · rw [show n - i = (n - (i + 1)) + 1 from by omega, List.range'_succ] at hlst; cases hlst
            · omega
          subst hiN
          simp only [wp_pure']
          exact hq _ _
variable {H : Heap} {locs : List Loc} {cells slots : Nat} {Q : State → Prop} {cc : ByteArray} {pc nL : Nat} {ls : Array Slot} {rest : List Value} {own : String} {w : Hp}
theorem hx_nM2 (C0 : CallFix p m c cc nL s args lw_all own) (hU : hx_U G s) (hH : hx_H G w s H locs) {index : Nat} {C : String} (t : Nat) (n1 n2 : Nat) (hok : mkOk [n1, n2] t = true) (hfc : s.vm.findClass C = some (hG_A G t)) (hcl : Cond.classLink own index C ∈ lw_all) {cont : Hp → Nat → Prop} (h : nMk [n1, n2] t w cont) (hcells : cells + mkC [n1, n2] ≤ R.cells) (hslots : slots + mkS [n1, n2] ≤ R.slots) (hdg : decode cc pc = .ok (.multianewarray index 2, 4))
    (kk : ∀ (a : Nat) (w : Hp) (H : Heap) (locs : List Loc), hx_H G w s H locs → cont w a → W p l e R s m args below meth c H locs (cells + mkC [n1, n2]) (slots + mkS [n1, n2]) Q (F0 m (pc + 4) ls (va_rf (some a) :: rest))) : W p l e R s m args below meth c H locs cells slots Q (F0 m pc ls (.int (nI n2) :: .int (nI n1) :: rest)) := by
  intro T hT X
  have hexec := C0.1
  have hb := C0.2.1
  have hpl : e.platform.magicAccessors = ({} : Platform).magicAccessors := by rw [X.admits.platform]
  obtain ⟨c0, hfc0, hcl0⟩ := Cond.classLink_spec C0.2.2.2.1 (C0.2.2.2.2 _ hcl) e.platform hpl
  cases hfc.symm.trans hfc0
  obtain ⟨g, hg⟩ : ∃ g, g = F0 m pc ls (.int (nI n2) :: .int (nI n1) :: rest) := ⟨_, rfl⟩
  have hgm : g.method = m := by rw [hg]
  have hstack : g.stack = .int (nI n2) :: .int (nI n1) :: rest := by rw [hg]
  have hdg9 : decode c.code g.pc = .ok (.multianewarray index 2, 4) := by rw [hb, hg]; exact hdg
  have hgo : ({ g with pc := g.pc + 4, stack := .ref T.heap.size :: rest } : JFrame) = F0 m (pc + 4) ls (.ref T.heap.size :: rest) := by rw [hg]
  rw [← hg]
  clear hg
  subst hgm
  obtain ⟨hg₁, hwarm₁, hready₁⟩ := State.classEntry (e := e) X.warmed hcl0
  generalize T.vm.noted g.method.cls index (.cls (hG_A G t)) = vm₁ at hg₁ hwarm₁ hready₁
  have X₁ := X.noted hwarm₁
  have hH1 : hx_H G w s (T.setVm vm₁).heap locs := by show hx_H G w s T.heap locs; rw [hT]; exact hH
  obtain ⟨w', l', X', hH', -, hc', hwp⟩ := hx_mk (g := { g with stack := rest }) hU [n1, n2] t hok (T.setVm vm₁) locs cells slots w cont X₁ hH1 h hcells hslots
  have hsz : (T.setVm vm₁).heap.size = T.heap.size := rfl
  rw [hsz] at hc' hwp
  obtain ⟨t9, a1, b1⟩ := kk T.heap.size w' _ l' hH' hc' (mkT (hG_A G) [n1, n2] t (T.setVm vm₁)) rfl X'
  refine ⟨t9, ?_, b1⟩
  jvm_step X.here [hexec, hdg9]
  simp only [multianewarray.sem, wp_bind', W.resolveClassAt_links (State.method?_setTop g X.here.top) hg₁]
  rw [W.popN, if_neg (by decide)]
  refine ⟨g, State.topJava?_setTop' (s := T.setVm vm₁) g X.here.top, [.int (nI n1), .int (nI n2)], rest, rfl, hstack, ?_⟩
  simp only [List.mapM_cons, List.mapM_nil, wp_bind', wp_pure']
  have eS : ((T.setTop g).setVm vm₁).setTop { g with stack := rest } = (T.setVm vm₁).setTop { g with stack := rest } := by
    show ((T.setVm vm₁).setTop g).setTop _ = _
    rw [State.setTop_setTop]
  rw [eS]
  refine hwp _ _ _ _ (fun d' acts' => ?_)
  simp only [wp_bind', W.mark, W.pushRef, State.topJava?_setTop' _ X'.here.top, Option.some.injEq, exists_eq_left', State.setTop_setTop, State.heap_setTop]
  intro acts
  simp [jvm, X'.here.top]
  rw [hgo]
  exact a1
theorem hx_nM3 (C0 : CallFix p m c cc nL s args lw_all own) (hU : hx_U G s) (hH : hx_H G w s H locs) {index : Nat} {C : String} (t : Nat) (n1 n2 n3 : Nat) (hok : mkOk [n1, n2, n3] t = true) (hfc : s.vm.findClass C = some (hG_A G t)) (hcl : Cond.classLink own index C ∈ lw_all) {cont : Hp → Nat → Prop} (h : nMk [n1, n2, n3] t w cont) (hcells : cells + mkC [n1, n2, n3] ≤ R.cells) (hslots : slots + mkS [n1, n2, n3] ≤ R.slots) (hdg : decode cc pc = .ok (.multianewarray index 3, 4))
    (kk : ∀ (a : Nat) (w : Hp) (H : Heap) (locs : List Loc), hx_H G w s H locs → cont w a → W p l e R s m args below meth c H locs (cells + mkC [n1, n2, n3]) (slots + mkS [n1, n2, n3]) Q (F0 m (pc + 4) ls (va_rf (some a) :: rest))) : W p l e R s m args below meth c H locs cells slots Q (F0 m pc ls (.int (nI n3) :: .int (nI n2) :: .int (nI n1) :: rest)) := by
  intro T hT X
  have hexec := C0.1
  have hb := C0.2.1
  have hpl : e.platform.magicAccessors = ({} : Platform).magicAccessors := by rw [X.admits.platform]
  obtain ⟨c0, hfc0, hcl0⟩ := Cond.classLink_spec C0.2.2.2.1 (C0.2.2.2.2 _ hcl) e.platform hpl
  cases hfc.symm.trans hfc0
  obtain ⟨g, hg⟩ : ∃ g, g = F0 m pc ls (.int (nI n3) :: .int (nI n2) :: .int (nI n1) :: rest) := ⟨_, rfl⟩
  have hgm : g.method = m := by rw [hg]
  have hstack : g.stack = .int (nI n3) :: .int (nI n2) :: .int (nI n1) :: rest := by rw [hg]
  have hdg9 : decode c.code g.pc = .ok (.multianewarray index 3, 4) := by rw [hb, hg]; exact hdg
  have hgo : ({ g with pc := g.pc + 4, stack := .ref T.heap.size :: rest } : JFrame) = F0 m (pc + 4) ls (.ref T.heap.size :: rest) := by rw [hg]
  rw [← hg]
  clear hg
  subst hgm
  obtain ⟨hg₁, hwarm₁, hready₁⟩ := State.classEntry (e := e) X.warmed hcl0
  generalize T.vm.noted g.method.cls index (.cls (hG_A G t)) = vm₁ at hg₁ hwarm₁ hready₁
  have X₁ := X.noted hwarm₁
  have hH1 : hx_H G w s (T.setVm vm₁).heap locs := by show hx_H G w s T.heap locs; rw [hT]; exact hH
  obtain ⟨w', l', X', hH', -, hc', hwp⟩ := hx_mk (g := { g with stack := rest }) hU [n1, n2, n3] t hok (T.setVm vm₁) locs cells slots w cont X₁ hH1 h hcells hslots
  have hsz : (T.setVm vm₁).heap.size = T.heap.size := rfl
  rw [hsz] at hc' hwp
  obtain ⟨t9, a1, b1⟩ := kk T.heap.size w' _ l' hH' hc' (mkT (hG_A G) [n1, n2, n3] t (T.setVm vm₁)) rfl X'
  refine ⟨t9, ?_, b1⟩
  jvm_step X.here [hexec, hdg9]
  simp only [multianewarray.sem, wp_bind', W.resolveClassAt_links (State.method?_setTop g X.here.top) hg₁]
  rw [W.popN, if_neg (by decide)]
  refine ⟨g, State.topJava?_setTop' (s := T.setVm vm₁) g X.here.top, [.int (nI n1), .int (nI n2), .int (nI n3)], rest, rfl, hstack, ?_⟩
  simp only [List.mapM_cons, List.mapM_nil, wp_bind', wp_pure']
  have eS : ((T.setTop g).setVm vm₁).setTop { g with stack := rest } = (T.setVm vm₁).setTop { g with stack := rest } := by
    show ((T.setVm vm₁).setTop g).setTop _ = _
    rw [State.setTop_setTop]
  rw [eS]
  refine hwp _ _ _ _ (fun d' acts' => ?_)
  simp only [wp_bind', W.mark, W.pushRef, State.topJava?_setTop' _ X'.here.top, Option.some.injEq, exists_eq_left', State.setTop_setTop, State.heap_setTop]
  intro acts
  simp [jvm, X'.here.top]
  rw [hgo]
  exact a1
theorem hx_nM4 (C0 : CallFix p m c cc nL s args lw_all own) (hU : hx_U G s) (hH : hx_H G w s H locs) {index : Nat} {C : String} (t : Nat) (n1 n2 n3 n4 : Nat) (hok : mkOk [n1, n2, n3, n4] t = true) (hfc : s.vm.findClass C = some (hG_A G t)) (hcl : Cond.classLink own index C ∈ lw_all) {cont : Hp → Nat → Prop} (h : nMk [n1, n2, n3, n4] t w cont) (hcells : cells + mkC [n1, n2, n3, n4] ≤ R.cells) (hslots : slots + mkS [n1, n2, n3, n4] ≤ R.slots) (hdg : decode cc pc = .ok (.multianewarray index 4, 4))
    (kk : ∀ (a : Nat) (w : Hp) (H : Heap) (locs : List Loc), hx_H G w s H locs → cont w a → W p l e R s m args below meth c H locs (cells + mkC [n1, n2, n3, n4]) (slots + mkS [n1, n2, n3, n4]) Q (F0 m (pc + 4) ls (va_rf (some a) :: rest))) : W p l e R s m args below meth c H locs cells slots Q (F0 m pc ls (.int (nI n4) :: .int (nI n3) :: .int (nI n2) :: .int (nI n1) :: rest)) := by
  intro T hT X
  have hexec := C0.1
  have hb := C0.2.1
  have hpl : e.platform.magicAccessors = ({} : Platform).magicAccessors := by rw [X.admits.platform]
  obtain ⟨c0, hfc0, hcl0⟩ := Cond.classLink_spec C0.2.2.2.1 (C0.2.2.2.2 _ hcl) e.platform hpl
  cases hfc.symm.trans hfc0
  obtain ⟨g, hg⟩ : ∃ g, g = F0 m pc ls (.int (nI n4) :: .int (nI n3) :: .int (nI n2) :: .int (nI n1) :: rest) := ⟨_, rfl⟩
  have hgm : g.method = m := by rw [hg]
  have hstack : g.stack = .int (nI n4) :: .int (nI n3) :: .int (nI n2) :: .int (nI n1) :: rest := by rw [hg]
  have hdg9 : decode c.code g.pc = .ok (.multianewarray index 4, 4) := by rw [hb, hg]; exact hdg
  have hgo : ({ g with pc := g.pc + 4, stack := .ref T.heap.size :: rest } : JFrame) = F0 m (pc + 4) ls (.ref T.heap.size :: rest) := by rw [hg]
  rw [← hg]
  clear hg
  subst hgm
  obtain ⟨hg₁, hwarm₁, hready₁⟩ := State.classEntry (e := e) X.warmed hcl0
  generalize T.vm.noted g.method.cls index (.cls (hG_A G t)) = vm₁ at hg₁ hwarm₁ hready₁
  have X₁ := X.noted hwarm₁
  have hH1 : hx_H G w s (T.setVm vm₁).heap locs := by show hx_H G w s T.heap locs; rw [hT]; exact hH
  obtain ⟨w', l', X', hH', -, hc', hwp⟩ := hx_mk (g := { g with stack := rest }) hU [n1, n2, n3, n4] t hok (T.setVm vm₁) locs cells slots w cont X₁ hH1 h hcells hslots
  have hsz : (T.setVm vm₁).heap.size = T.heap.size := rfl
  rw [hsz] at hc' hwp
  obtain ⟨t9, a1, b1⟩ := kk T.heap.size w' _ l' hH' hc' (mkT (hG_A G) [n1, n2, n3, n4] t (T.setVm vm₁)) rfl X'
  refine ⟨t9, ?_, b1⟩
  jvm_step X.here [hexec, hdg9]
  simp only [multianewarray.sem, wp_bind', W.resolveClassAt_links (State.method?_setTop g X.here.top) hg₁]
  rw [W.popN, if_neg (by decide)]
  refine ⟨g, State.topJava?_setTop' (s := T.setVm vm₁) g X.here.top, [.int (nI n1), .int (nI n2), .int (nI n3), .int (nI n4)], rest, rfl, hstack, ?_⟩
  simp only [List.mapM_cons, List.mapM_nil, wp_bind', wp_pure']
  have eS : ((T.setTop g).setVm vm₁).setTop { g with stack := rest } = (T.setVm vm₁).setTop { g with stack := rest } := by
    show ((T.setVm vm₁).setTop g).setTop _ = _
    rw [State.setTop_setTop]
  rw [eS]
  refine hwp _ _ _ _ (fun d' acts' => ?_)
  simp only [wp_bind', W.mark, W.pushRef, State.topJava?_setTop' _ X'.here.top, Option.some.injEq, exists_eq_left', State.setTop_setTop, State.heap_setTop]
  intro acts
  simp [jvm, X'.here.top]
  rw [hgo]
  exact a1
end HXM
