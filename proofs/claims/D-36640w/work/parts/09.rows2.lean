/-! rows: references into arrays, new cells, copies -/
set_option maxRecDepth 100000
section HX2
variable {p : Program} {l : Launch} {e : Env} {R : Room} {s : State} {m : MethodId} {args : Array Value} {below : List Frame} {meth : Method} {c : Code} {H : Heap} {locs : List Loc} {cells slots : Nat} {Q : State → Prop}
variable {cc : ByteArray} {pc nL : Nat} {ls : Array Slot} {rest st0 : List Value} {own : String} {G : hG} {w : Hp} {a : Nat}
theorem hx_aux (vm : Vm) (n c9 : Nat) : vm.assignableAux (n + 1) c9 c9 = true := by
  rw [Vm.assignableAux]
  simp
theorem hx_self (c9 : ClassId) : s.vm.assignable c9 c9 = true := hx_aux s.vm 255 c9
theorem hx_cast {C T : String} (hU : hx_U G s) (hw : Cond.castable C T ∈ lw_tbl) {c1 c2 : ClassId} (h1 : s.vm.findClass C = some c1) (h2 : s.vm.findClass T = some c2) : s.vm.assignable c1 c2 = true := by
  obtain ⟨c0, t1, f1, f2, f3⟩ := Cond.castable_spec (va_Nw.use (A := #[]) rfl (hU.2.2.1 _ hw rfl))
  cases h1.symm.trans f1
  cases h2.symm.trans f2
  exact f3
theorem hx_nmI (hU : hx_U G s) : s.vm.findClass "[I" = some (hG_A G 0) := (hU.1.2 0 _ rfl).2
theorem hx_okc (hU : hx_U G s) (hH : hx_H G w s H locs) {t v : Nat} {e : hE} (ht : 3 ≤ t) (ht2 : t < 13) (he : w v = some e) (hk : hok t e) :
    ∃ (kA : Class) (comp : ClassId) (kcomp : Class) (cv : Cell) (kv : Class), s.vm.classes[hG_A G t]? = some kA ∧ kA.kind = .array comp (hT t) ∧ s.vm.classes[comp]? = some kcomp ∧ H[v]? = some cv ∧ cv.vm.isStatics = false ∧ s.vm.classes[cv.cls]? = some kv ∧ s.vm.assignable cv.cls comp = true := by
  have hv := hx_at hU hH he
  have obj : ∀ (C : String), hT t = .object C → ∃ (kA : Class) (comp : ClassId) (kcomp : Class), s.vm.classes[hG_A G t]? = some kA ∧ kA.kind = .array comp (hT t) ∧ s.vm.classes[comp]? = some kcomp ∧ s.vm.findClass C = some comp := by
    intro C hC
    have h9 := (hU.1.2 t _ (hTy_at (hG_A G) (by omega))).2
    rw [hC] at h9
    obtain ⟨kA, comp, k1, k2, k3, -⟩ := h9
    obtain ⟨kE, hkE, -⟩ := Vm.findClass_spec k3
    exact ⟨kA, comp, kE, k1, by rw [hC]; exact k2, hkE, k3⟩
  cases e with
  | inr o =>
    obtain ⟨r', hr', cellV, g1, g2, g3, -⟩ := hv
    have hcls := (hU.1.1 o.1 r' hr').2
    obtain ⟨kC, hkC, -⟩ := hcls.2
    have fin : ∀ C, hT t = .object C → (∀ comp, s.vm.findClass C = some comp → s.vm.assignable ((hG_D G).1 o.1) comp = true) → ∃ (kA : Class) (comp : ClassId) (kcomp : Class) (cv : Cell) (kv : Class), s.vm.classes[hG_A G t]? = some kA ∧ kA.kind = .array comp (hT t) ∧ s.vm.classes[comp]? = some kcomp ∧ H[v]? = some cv ∧ cv.vm.isStatics = false ∧ s.vm.classes[cv.cls]? = some kv ∧ s.vm.assignable cv.cls comp = true := by
      intro C hC hass
      obtain ⟨kA, comp, kcomp, k1, k2, k3, k4⟩ := obj C hC
      exact ⟨kA, comp, kcomp, cellV, kC, k1, k2, k3, g1, by rw [g3]; rfl, by rw [g2]; exact hkC, by rw [g2]; exact hass comp k4⟩
    rcases hk with ⟨rfl, ho⟩ | ⟨rfl, ho⟩ | ⟨rfl, ho⟩
    · rw [ho] at hr' hcls fin
      cases hr'
      exact fin _ rfl fun comp hc => by rw [show comp = (hG_D G).1 2 from Option.some.inj (hc.symm.trans hcls.1)]; exact hx_self _
    · rw [ho] at hr' hcls fin
      cases hr'
      exact fin _ rfl fun comp hc => by rw [show comp = (hG_D G).1 1 from Option.some.inj (hc.symm.trans hcls.1)]; exact hx_self _
    · rcases ho with ho | ho | ho
      · rw [ho] at hr' hcls fin
        cases hr'
        exact fin _ rfl fun comp hc => hx_cast hU q1494 hcls.1 hc
      · rw [ho] at hr' hcls fin
        cases hr'
        exact fin _ rfl fun comp hc => hx_cast hU q1496 hcls.1 hc
      · rw [ho] at hr' hcls fin
        cases hr'
        exact fin _ rfl fun comp hc => hx_cast hU q1487 hcls.1 hc
  | inl x =>
    have hcell : H[v]? = some (vp_cell (hG_A G x.1) x.2) := hv
    have hvm0 : (vp_cell (hG_A G x.1) x.2).vm = .none := by obtain ⟨j, n, f | f | f | f | f⟩ := x <;> rfl
    have hcl0 : (vp_cell (hG_A G x.1) x.2).cls = hG_A G x.1 := by obtain ⟨j, n, f | f | f | f | f⟩ := x <;> rfl
    rcases hk with ⟨rfl, hx⟩ | hx
    · obtain ⟨kA, comp, kcomp, k1, k2, k3, k4⟩ := obj _ rfl
      obtain ⟨-, kS, hkS, -⟩ := (hU.1.2 0 _ rfl).1 0 (fun _ => .null)
      refine ⟨kA, comp, kcomp, _, kS, k1, k2, k3, hcell, by rw [hvm0]; rfl, by rw [hcl0, hx]; exact hkS, ?_⟩
      rw [hcl0, hx]
      exact hx_cast hU q1506 (hx_nmI hU) k4
    · obtain ⟨kA, k1, k2⟩ := hU.2.1 t x.1 hx
      have hx14 : x.1 < 14 := by
        unfold hJ at hx
        split at hx <;> first | (have h8 := Option.some.inj hx; omega) | cases hx
      obtain ⟨-, kS, hkS, -⟩ := (hU.1.2 x.1 _ (hTy_at (hG_A G) hx14)).1 0 (fun _ => .null)
      exact ⟨kA, _, kS, _, kS, k1, k2, hkS, hcell, by rw [hvm0]; rfl, by rw [hcl0]; exact hkS, by rw [hcl0]; exact hx_self _⟩
theorem hx_sR (C0 : CallFix p m c cc nL s args lw_all own) (hU : hx_U G s) (hH : hx_H G w s H locs) {i : Int32} {r : Option Nat} {cont : Hp → Prop} (h : sR w a i r cont) (hdg : decode cc pc = .ok (.aastore, 1))
    (kk : ∀ (w : Hp) (H : Heap) (locs : List Loc), hx_H G w s H locs → cont w → W p l e R s m args below meth c H locs cells slots Q (F0 m (pc + 1) ls rest)) : W p l e R s m args below meth c H locs cells slots Q (F0 m pc ls (va_rf r :: .int i :: va_rf (some a) :: rest)) := by
  obtain ⟨t, n, f, t1, t2, h1, hin, hr0, hr1, h3⟩ := h
  have hwr : ∀ g : Nat → Option Nat, hx_wr (.inl (t, n, hr_ g)) = true := fun g => decide_eq_true t2
  obtain ⟨q0, hq⟩ := hx_L_in (G := G) h1 (hwr f) (hx_lt hU hH h1)
  have hP := hx_LP hU hH H.size
  have hD := hx_LD hU hH H.size
  have hlt : i.toNatClampNeg < n := Nat.not_le.mp fun q => hin (Or.inr q)
  have h0 : ¬ i < 0 := fun q => hin (Or.inl q)
  cases r with
  | none =>
    cases hr0 rfl
    refine va_WaastN (C := "java/lang/Object") C0.1 C0.2.1 (hP q0 _ hq) ((hU.1.2 6 _ rfl).1 n (fun j => va_rf (f j))) (fun h => by cases h) (by show ¬ (i < 0 ∨ (arrV _ _ _).slots.size ≤ _); rw [arrV_size]; exact hin) rfl rfl hdg fun H1 e z oq => ?_
    refine kk _ H1 _ (hx_put hU hH h1 (hwr _) (hwr (va_up f i.toNatClampNeg none)) rfl hq (hP.set hD hq ?_ oq) (hH.2.put z oq (hD.2 q0 _ hq))) h3
    show H1[a]? = some (vp_cell _ _)
    rw [e, vp_cell_q, vp_cell_q, arrV_store]
    congr 2
    funext q
    by_cases hq : q = i.toNatClampNeg
    · subst hq
      simp [updV, va_up, va_rf]
    · simp [updV, va_up, hq]
  | some v =>
    obtain ⟨e9, he, hk⟩ := hr1 v rfl
    obtain ⟨kA, comp, kcomp, cv, kv, k1, k2, k3, k4, k5, k6, k7⟩ := hx_okc hU hH t1 t2 he hk
    refine W.aast C0.1 C0.2.1 (hP q0 _ hq) (fun q h => by cases h) (fun h => by cases h) k1 k2 (hT_ref t1 (by omega)) k3 ⟨h0, by show _ < (arrV _ _ _).slots.size; rw [arrV_size]; exact hlt⟩ k4 (fun q h => by rw [h] at k5; cases k5) k6 k7 rfl rfl hdg fun H1 e z oq => ?_
    refine kk _ H1 _ (hx_put hU hH h1 (hwr _) (hwr (va_up f i.toNatClampNeg (some v))) rfl hq (hP.set hD hq ?_ oq) (hH.2.put z oq (hD.2 q0 _ hq))) h3
    show H1[a]? = some (vp_cell _ _)
    rw [e, vp_cell_q, vp_cell_q, arrV_store]
    congr 2
    funext q
    by_cases hq : q = i.toNatClampNeg
    · subst hq
      simp [updV, va_up, va_rf]
    · simp [updV, va_up, hq]
/-! new cells -/
theorem hx_new (C0 : CallFix p m c cc nL s args lw_all own) (hU : hx_U G s) (hH : hx_H G w s H locs) {C : String} {T : u_T} {N ci index : Nat} (hc : hC[ci]? = some (C, T, N)) (hin : ∀ w ∈ u_ws C T N, w ∈ lw_all) (ty : Nat → FieldType) (hty : ∀ k, k < N → parseFieldDescriptor (T k).2.2.1 = some (ty k)) (hcl : Cond.classLink own index C ∈ lw_all) (hinst : Cond.instantiable C N ∈ lw_all) (hini : Cond.initialized C ∈ lw_all) {fs : List Value} (hfs : ∀ j, j < N → defaultValue (ty j) = vp_V fs j) (hcells : cells + 1 ≤ R.cells) (hslots : slots + N ≤ R.slots) {cont : Hp → Nat → Prop} (h : nO w ci fs cont) (hdg : decode cc pc = .ok (.new index, 3))
    (kk : ∀ (a : Nat) (w : Hp) (H : Heap) (locs : List Loc), hx_H G w s H locs → cont w a → W p l e R s m args below meth c H locs (cells + 1) (slots + N) Q (F0 m (pc + 3) ls (va_rf (some a) :: rest))) : W p l e R s m args below meth c H locs cells slots Q (F0 m pc ls rest) := by
  have hKn := hU.1.1 ci _ hc
  refine W.newcK C0.1 C0.2.1 C0.2.2.2.1 (C0.2.2.2.2 _ hcl) (C0.2.2.2.2 _ hinst) (C0.2.2.2.2 _ hini) rfl hdg hcells hslots hKn.2.1 rfl fun H1 kC hkC e1 z1 o1 => ?_
  obtain ⟨hn, hH1⟩ := hx_push hU hH (e1 := .inr (ci, fs)) (locs1 := locs) rfl o1 (by omega) ⟨_, hc, (u_born ty C0.2.2.2.2 hin hKn hkC e1 hty).to hfs⟩ (fun q h => Or.inl h)
  exact kk _ _ H1 locs hH1 (h _ hn)
theorem hx_prim (C0 : CallFix p m c cc nL s args lw_all own) (hU : hx_U G s) (hH : hx_H G w s H locs) {atype : ArrayType} (harr : Cond.arrayClass (newarray.typeOf atype) ∈ lw_all) (t : Nat) (ht : t < 3) (hty : newarray.typeOf atype = hT t) {n : Int32} {B : Nat} {x0 : Nat → vp_A} (ha : ∀ cA : ClassId, vp_cell cA (x0 n.toNatClampNeg) = arrV cA n.toNatClampNeg (fun _ => defaultValue (hT t))) (hn : ¬ n < 0) (hN : n.toNatClampNeg ≤ B) (hbytes : B * componentBytes (hT t) ≤ 536870912) (hcells : cells + 1 ≤ R.cells) (hslots : slots + B ≤ R.slots) (hdg : decode cc pc = .ok (.newarray atype, 2))
    (kk : ∀ (a : Nat) (w' : Hp) (H : Heap) (locs : List Loc), w a = none → w' = hu w a (.inl (t, x0 n.toNatClampNeg)) → hx_H G w' s H locs → W p l e R s m args below meth c H locs (cells + 1) (slots + B) Q (F0 m (pc + 2) ls (va_rf (some a) :: rest))) : W p l e R s m args below meth c H locs cells slots Q (F0 m pc ls (.int n :: rest)) := by
  have hb2 : n.toNatClampNeg * componentBytes (newarray.typeOf atype) ≤ 536870912 := by rw [hty]; exact Nat.le_trans (Nat.mul_le_mul_right _ hN) hbytes
  refine va_newaK C0.1 C0.2.1 (C0.2.2.2.2 _ harr) rfl hdg rfl hn rfl hb2 hcells (by omega) rfl fun H1 cA e1 z1 o1 hAr hNm => ?_
  have hcA : cA = hG_A G t := by
    have h9 := (hU.1.2 t _ (hTy_at (hG_A G) (by omega))).2
    rw [hty] at hNm
    have : t = 0 ∨ t = 1 ∨ t = 2 := by omega
    rcases this with z | z | z <;> subst z <;> exact Option.some.inj (hNm.symm.trans h9)
  subst hcA
  rw [hty, ← ha] at e1
  obtain ⟨hn9, hH1⟩ := hx_push hU hH (e1 := .inl (t, x0 n.toNatClampNeg)) (locs1 := locs) (decide_eq_true (show t < 13 by omega)) o1 (by omega) e1 (fun q h => Or.inl h)
  exact W.widen (Nat.le_refl _) (show slots + n.toNatClampNeg ≤ slots + B by omega) (kk _ _ H1 locs hn9 rfl hH1)
theorem hx_nI (C0 : CallFix p m c cc nL s args lw_all own) (hU : hx_U G s) (hH : hx_H G w s H locs) {n : Int32} {B : Nat} (hbytes : B * 4 ≤ 536870912) (hcells : cells + 1 ≤ R.cells) (hslots : slots + B ≤ R.slots) {cont : Hp → Nat → Prop} (h : nI_ w n B cont) (hdg : decode cc pc = .ok (.newarray .int, 2))
    (kk : ∀ (a : Nat) (w : Hp) (H : Heap) (locs : List Loc), hx_H G w s H locs → cont w a → W p l e R s m args below meth c H locs (cells + 1) (slots + B) Q (F0 m (pc + 2) ls (va_rf (some a) :: rest))) : W p l e R s m args below meth c H locs cells slots Q (F0 m pc ls (.int n :: rest)) := by
  obtain ⟨h1, h2, h3⟩ := h
  exact hx_prim (atype := .int) C0 hU hH q130 0 (by omega) rfl (x0 := fun k => (k, .inl (fun _ => 0))) (fun _ => rfl) h1 h2 hbytes hcells hslots hdg (fun a w' H locs hn hw hH1 => kk a w' H locs hH1 (by rw [hw]; exact h3 a hn))
theorem hx_nZ (C0 : CallFix p m c cc nL s args lw_all own) (hU : hx_U G s) (hH : hx_H G w s H locs) {n : Int32} {B : Nat} (hbytes : B * 1 ≤ 536870912) (hcells : cells + 1 ≤ R.cells) (hslots : slots + B ≤ R.slots) {cont : Hp → Nat → Prop} (h : nZ_ w n B cont) (hdg : decode cc pc = .ok (.newarray .boolean, 2))
    (kk : ∀ (a : Nat) (w : Hp) (H : Heap) (locs : List Loc), hx_H G w s H locs → cont w a → W p l e R s m args below meth c H locs (cells + 1) (slots + B) Q (F0 m (pc + 2) ls (va_rf (some a) :: rest))) : W p l e R s m args below meth c H locs cells slots Q (F0 m pc ls (.int n :: rest)) := by
  obtain ⟨h1, h2, h3⟩ := h
  exact hx_prim (atype := .boolean) C0 hU hH q131 1 (by omega) rfl (x0 := fun k => (k, .inl (fun _ => 0))) (fun _ => rfl) h1 h2 hbytes hcells hslots hdg (fun a w' H locs hn hw hH1 => kk a w' H locs hH1 (by rw [hw]; exact h3 a hn))
theorem hx_nJ (C0 : CallFix p m c cc nL s args lw_all own) (hU : hx_U G s) (hH : hx_H G w s H locs) {n : Int32} {B : Nat} (hbytes : B * 8 ≤ 536870912) (hcells : cells + 1 ≤ R.cells) (hslots : slots + B ≤ R.slots) {cont : Hp → Nat → Prop} (h : nJ_ w n B cont) (hdg : decode cc pc = .ok (.newarray .long, 2))
    (kk : ∀ (a : Nat) (w : Hp) (H : Heap) (locs : List Loc), hx_H G w s H locs → cont w a → W p l e R s m args below meth c H locs (cells + 1) (slots + B) Q (F0 m (pc + 2) ls (va_rf (some a) :: rest))) : W p l e R s m args below meth c H locs cells slots Q (F0 m pc ls (.int n :: rest)) := by
  obtain ⟨h1, h2, h3⟩ := h
  exact hx_prim (atype := .long) C0 hU hH q1480 2 (by omega) rfl (x0 := fun k => (k, .inr (.inl (fun _ => 0)))) (fun _ => rfl) h1 h2 hbytes hcells hslots hdg (fun a w' H locs hn hw hH1 => kk a w' H locs hH1 (by rw [hw]; exact h3 a hn))
theorem hx_pushR (hU : hx_U G s) (hH : hx_H G w s H locs) (t : Nat) (ht : t < 13) (N : Nat) : w H.size = none ∧ hx_H G (hu w H.size (.inl (t, N, hr_ (fun _ => none)))) s (H.push ({ cls := hG_A G t, slots := Array.replicate N .null, vm := .none } : Cell)) locs := by
  refine hx_push hU hH (e1 := .inl (t, N, hr_ (fun _ => none))) (locs1 := locs) (decide_eq_true ht) (fun q hq => by rw [Array.getElem?_push, if_neg (Nat.ne_of_lt hq)]) (by rw [Array.size_push]; omega) ?_ (fun q h => Or.inl h)
  show (H.push _)[H.size]? = some (vp_cell _ _)
  rw [vp_cell_q, Array.getElem?_push_size]
  show some _ = some (arrV _ _ _)
  rw [← arrV_new]
  rfl
theorem hx_nRO (C0 : CallFix p m c cc nL s args lw_all own) (hU : hx_U G s) (hH : hx_H G w s H locs) {C : String} {index : Nat} (t : Nat) (ht : t < 13) (hT9 : hT t = .object C) (hcl : Cond.classLink own index C ∈ lw_all) (hover : va_AO C s) {n : Int32} {B : Nat} (hbytes : B * 4 ≤ 536870912) (hcells : cells + 1 ≤ R.cells) (hslots : slots + B ≤ R.slots) {cont : Hp → Nat → Prop} (h : nR_ t w n B cont) (hdg : decode cc pc = .ok (.anewarray index, 3))
    (kk : ∀ (a : Nat) (w : Hp) (H : Heap) (locs : List Loc), hx_H G w s H locs → cont w a → W p l e R s m args below meth c H locs (cells + 1) (slots + B) Q (F0 m (pc + 3) ls (va_rf (some a) :: rest))) : W p l e R s m args below meth c H locs cells slots Q (F0 m pc ls (.int n :: rest)) := by
  obtain ⟨h1, h2, h3⟩ := h
  refine W.anew C0.1 C0.2.1 C0.2.2.2.1 (C0.2.2.2.2 _ hcl) (va_AO.use hover) rfl hdg rfl h1 (by omega) hcells (by omega) fun cA kA comp f1 f2 f3 f4 => ?_
  have hcA : cA = hG_A G t := by
    have h9 := (hU.1.2 t _ (hTy_at (hG_A G) (by omega))).2
    rw [hT9] at h9
    obtain ⟨kA', comp', -, -, -, k4⟩ := h9
    exact Option.some.inj (f1.symm.trans k4)
  subst hcA
  obtain ⟨hn9, hH1⟩ := hx_pushR hU hH t ht n.toNatClampNeg
  exact W.widen (Nat.le_refl _) (show slots + n.toNatClampNeg ≤ slots + B by omega) (kk _ _ _ locs hH1 (h3 _ hn9))
theorem hx_nRI (C0 : CallFix p m c cc nL s args lw_all own) (hU : hx_U G s) (hH : hx_H G w s H locs) {index : Nat} (hcl : Cond.classLink own index "[I" ∈ lw_all) {n : Int32} {B : Nat} (hbytes : B * 4 ≤ 536870912) (hcells : cells + 1 ≤ R.cells) (hslots : slots + B ≤ R.slots) {cont : Hp → Nat → Prop} (h : nR_ 7 w n B cont) (hdg : decode cc pc = .ok (.anewarray index, 3))
    (kk : ∀ (a : Nat) (w : Hp) (H : Heap) (locs : List Loc), hx_H G w s H locs → cont w a → W p l e R s m args below meth c H locs (cells + 1) (slots + B) Q (F0 m (pc + 3) ls (va_rf (some a) :: rest))) : W p l e R s m args below meth c H locs cells slots Q (F0 m pc ls (.int n :: rest)) := by
  obtain ⟨h1, h2, h3⟩ := h
  refine W.anewA (t := .int) C0.1 C0.2.1 C0.2.2.2.1 (C0.2.2.2.2 _ hcl) (hU.2.2.2.1.2.2) rfl hdg rfl h1 (by omega) hcells (by omega) fun cA kA comp f1 f2 f3 f4 => ?_
  have hcA : cA = hG_A G 7 := Option.some.inj (f1.symm.trans (hU.1.2 7 _ rfl).2)
  subst hcA
  obtain ⟨hn9, hH1⟩ := hx_pushR hU hH 7 (by omega) n.toNatClampNeg
  exact W.widen (Nat.le_refl _) (show slots + n.toNatClampNeg ≤ slots + B by omega) (kk _ _ _ locs hH1 (h3 _ hn9))
/-! checkcast, getstatic -/
theorem hx_recv (hU : hx_U G s) (hH : hx_H G w s H locs) {ci : Nat} {r : vw_C} (hc : hC[ci]? = some r) (h : ∃ fs, w a = some (.inr (ci, fs))) : ∃ cell : Cell, H[a]? = some cell ∧ cell.vm.isStatics = false ∧ s.vm.findClass r.1 = some cell.cls := by
  obtain ⟨fs, h⟩ := h
  exact va_recv hU.1 (hx_one hU hH h) hc (q0 := 0) rfl
theorem hx_ckO (C0 : CallFix p m c cc nL s args lw_all own) (hU : hx_U G s) (hH : hx_H G w s H locs) {C : String} {T : u_T} {N ci index : Nat} (hc : hC[ci]? = some (C, T, N)) (hcl : Cond.classLink own index C ∈ lw_all) {r : Option Nat} {cont : Prop} (h : ckO w r ci cont) (hdg : decode cc pc = .ok (.checkcast index, 3))
    (kk : cont → W p l e R s m args below meth c H locs cells slots Q (F0 m (pc + 3) ls (va_rf r :: rest))) : W p l e R s m args below meth c H locs cells slots Q (F0 m pc ls (va_rf r :: rest)) := by
  obtain ⟨h1, h2⟩ := h
  cases r with
  | none => exact lv_castN C0.1 C0.2.1 hdg (kk h2)
  | some v => exact va_castS C0.1 C0.2.1 C0.2.2.2.1 (C0.2.2.2.2 _ hcl) (hU.1.1 ci _ hc).2 (hx_recv hU hH hc (h1 v rfl)) hdg (kk h2)
theorem hx_ckI (C0 : CallFix p m c cc nL s args lw_all own) (hU : hx_U G s) (hH : hx_H G w s H locs) {index : Nat} (hcl : Cond.classLink own index "[I" ∈ lw_all) {r : Option Nat} {cont : Prop} (h : ckI w r cont) (hdg : decode cc pc = .ok (.checkcast index, 3))
    (kk : cont → W p l e R s m args below meth c H locs cells slots Q (F0 m (pc + 3) ls (va_rf r :: rest))) : W p l e R s m args below meth c H locs cells slots Q (F0 m pc ls (va_rf r :: rest)) := by
  obtain ⟨h1, h2⟩ := h
  cases r with
  | none => exact lv_castN C0.1 C0.2.1 hdg (kk h2)
  | some v =>
    obtain ⟨x, hx⟩ := h1 v rfl
    exact va_castA C0.1 C0.2.1 C0.2.2.2.1 (C0.2.2.2.2 _ hcl) (hx_one hU hH hx) 0 rfl (hx_nmI hU) hdg (kk h2)
theorem hx_gE (C0 : CallFix p m c cc nL s args lw_all own) (hU : hx_U G s) (hH : hx_H G w s H locs) {index : Nat} (hlink : Cond.fieldLink own index "java/util/ArrayList" "DEFAULTCAPACITY_EMPTY_ELEMENTDATA" "[Ljava/lang/Object;" ∈ lw_all) {cont : Nat → Prop} (h : gE w cont) (hdg : decode cc pc = .ok (.getstatic index, 3))
    (kk : ∀ a, cont a → W p l e R s m args below meth c H locs cells slots Q (F0 m (pc + 3) ls (va_rf (some a) :: rest))) : W p l e R s m args below meth c H locs cells slots Q (F0 m pc ls rest) :=
  va_gets C0.1 C0.2.1 hU.2.2.2.2.2.2.2.2.1 hH.2 C0.2.2.2.1 (C0.2.2.2.2 _ hlink) (fun _ h9 => h9) hdg (kk _ (h _ hH.1.2))
/-! copies -/
theorem hx_cI (C0 : CallFix p m c cc nL s args lw_all own) (hU : hx_U G s) (hH : hx_H G w s H locs) (hml : nL = ls.size) {index a0 : Nat} (hlink : Cond.methodLink own index arraycopyName ∈ lw_all) {sp dp n : Int32} {cont : Hp → Prop} (h : cI w a0 sp a dp n cont)
    (hframes : 1 ≤ R.frames) (hlocals : (rest.map fun v => v.category).sum + (nativeFrameWords "java/lang/System" "arraycopy" 5 + 11) ≤ R.locals) (hdg : decode cc pc = .ok (.invokestatic index, 3))
    (kk : ∀ (w : Hp) (H : Heap) (locs : List Loc), hx_H G w s H locs → cont w → W p l e R s m args below meth c H locs cells slots Q (F0 m (pc + 3) ls rest)) : W p l e R s m args below meth c H locs cells slots Q (F0 m pc ls (.int n :: .int dp :: va_rf (some a) :: .int sp :: va_rf (some a0) :: rest)) := by
  obtain ⟨n0, n1, f, g, h1, h2, h3, h4, h5, h6, h7, h8⟩ := h
  obtain ⟨q0, hq0⟩ := hx_L_in (G := G) h1 rfl (hx_lt hU hH h1)
  obtain ⟨q1, hq1⟩ := hx_L_in (G := G) h2 rfl (hx_lt hU hH h2)
  exact va_copyi C0.1 C0.2.1 (C0.2.2.1.trans hml) C0.2.2.2.1 (C0.2.2.2.2 _ hlink) (C0.2.2.2.2 _ q212) (C0.2.2.2.2 _ q211) (C0.2.2.2.2 _ q69) hU.1 (hx_LP hU hH H.size) (hx_LD hU hH H.size) hH.2 q0 q1 0 0 hq0 hq1 rfl rfl rfl h3 h4 h5 h6 h7 (fun _ _ => rfl) hframes hlocals hdg (fun H1 locs1 hP _ hS => kk _ H1 locs1 (hx_put hU hH h2 rfl (e1 := .inl (0, n1, .inl (va_cpy f g sp.toNatClampNeg dp.toNatClampNeg n.toNatClampNeg))) rfl rfl hq1 hP hS) h8)
end HX2
