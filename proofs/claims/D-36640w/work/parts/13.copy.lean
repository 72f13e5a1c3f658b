/-! System.arraycopy of references, int[].clone, Arrays.copyOf of an Object[] -/
set_option maxRecDepth 100000
section HX3
variable {p : Program} {l : Launch} {e : Env} {R : Room} {s : State} {m : MethodId} {args : Array Value} {below : List Frame} {meth : Method} {c : Code} {H : Heap} {locs : List Loc} {cells slots : Nat} {Q : State → Prop}
variable {cc : ByteArray} {pc nL : Nat} {ls : Array Slot} {rest st0 : List Value} {own : String} {G : hG} {w : Hp} {a : Nat}
theorem hx_any (hU : hx_U G s) (hH : hx_H G w s H locs) {y : Nat} (h : hAnyO w y) : va_Any "java/lang/Object" s H y := by
  obtain ⟨e, h1, h2⟩ := h
  obtain ⟨kA, comp, kcomp, cv, kv, k1, k2, k3, k4, k5, k6, k7⟩ := hx_okc hU hH (t := 6) (by omega) (by omega) h1 h2
  refine ⟨cv, k4, k5, ⟨kv, k6⟩, fun comp' hc => ?_⟩
  obtain ⟨kA', comp2, r1, r2, r3, -⟩ := (hU.1.2 6 _ rfl).2
  cases k1.symm.trans r1
  have h9 : Kind.array comp (hT 6) = Kind.array comp2 (.object "java/lang/Object") := k2.symm.trans r2
  cases h9
  cases hc.symm.trans r3
  exact k7
theorem hx_cR (C0 : CallFix p m c cc nL s args lw_all own) (hU : hx_U G s) (hH : hx_H G w s H locs) (hml : nL = ls.size) {index a0 : Nat} (hlink : Cond.methodLink own index arraycopyName ∈ lw_all) {sp dp n : Int32} {cont : Hp → Prop} (h : cR w a0 sp a dp n cont)
    (hframes : 1 ≤ R.frames) (hlocals : (rest.map fun v => v.category).sum + (nativeFrameWords "java/lang/System" "arraycopy" 5 + 11) ≤ R.locals) (hdg : decode cc pc = .ok (.invokestatic index, 3))
    (kk : ∀ (w : Hp) (H : Heap) (locs : List Loc), hx_H G w s H locs → cont w → W p l e R s m args below meth c H locs cells slots Q (F0 m (pc + 3) ls rest)) : W p l e R s m args below meth c H locs cells slots Q (F0 m pc ls (.int n :: .int dp :: va_rf (some a) :: .int sp :: va_rf (some a0) :: rest)) := by
  obtain ⟨n0, n1, f, g, h1, h2, h3, h4, h5, h6, h7, hel, h8⟩ := h
  obtain ⟨q0, hq0⟩ := hx_L_in (G := G) h1 rfl (hx_lt hU hH h1)
  obtain ⟨q1, hq1⟩ := hx_L_in (G := G) h2 rfl (hx_lt hU hH h2)
  exact va_copyM C0.1 C0.2.1 (C0.2.2.1.trans hml) C0.2.2.2.1 (C0.2.2.2.2 _ hlink) (C0.2.2.2.2 _ q212) (C0.2.2.2.2 _ q211) (C0.2.2.2.2 _ q69) hU.1 (hx_LP hU hH H.size) (hx_LD hU hH H.size) hH.2 q0 q1 6 6 hq0 hq1 rfl rfl h3 h4 h5 h6 h7 (fun i hi y hy => hx_any hU hH (hel i hi y hy)) hframes hlocals hdg (fun H1 locs1 hP _ hS => kk _ H1 locs1 (hx_put hU hH h2 rfl (e1 := .inl (6, n1, hr_ (va_cpy f g sp.toNatClampNeg dp.toNatClampNeg n.toNatClampNeg))) rfl rfl hq1 hP hS) h8)
end HX3
def wp_J5_copyOf (w : Hp) (a0 : Nat) (x1 : Int32) (K : Hp → Option Nat → Prop) : Prop :=
  (∃ x, w a0 = some (.inl (6, x))) ∧ nR_ 6 w x1 256 fun w b => aN w a0 fun n => wp_J4_min w n x1 fun w k => cR w a0 (0 : Int32) b (0 : Int32) k fun w => K w (some b)
abbrev rm_J5_copyOf_2 : Room := { frames := 2, cells := 1, slots := 256, locals := 120 }
set_option maxHeartbeats 4000000 in
theorem wk_J5_copyOf_2 (l : Launch) {G : hG} {w : Hp} {a0 : Nat} {x1 : Int32} {K : Hp → Option Nat → Prop} (h : wp_J5_copyOf w a0 x1 K) : hx_Mq l yJ5_copyOf_2 (ws_ yJ5_copyOf_2 cJ5_copyOf_2 4 (some (.array (.object "java/lang/Object")))) rm_J5_copyOf_2 G w [.ref a0, .int x1, .ref (hG_m G)] K 1 256 := by
  refine Met.ofW (cc := cJ5_copyOf_2) (maxL := 4) (ret := (some (.array (.object "java/lang/Object")))) (by decide) rfl ?_
  intro p e s m args below meth c s₁ B hml hv
  refine hx_in (own := RJ5) (av := [.ref a0, .int x1, .ref (hG_m G)]) (vl := [(0, va_rf (some a0)), (1, .int x1), (2, va_rf (some (hG_m G)))]) rfl rfl (Nat.le_of_ble_eq_true rfl) rfl B hml hv ?_
  intro C0 hU hH hr hlocks hin ls hl
  have hx := C0.1
  have hb := C0.2.1
  have hts := C0.2.2.2.2
  obtain ⟨-, h⟩ := h
  refine hx_aload_n C0 dJ5_copyOf_2_0 rfl (lv_at hl 2 rfl) ?_
  refine va_ldcM hx hb C0.2.2.2.1 (hts _ q204) hU.2.2.2.2.2.1.2 dJ5_copyOf_2_1 ?_
  refine lv_acmp_ne (rx := some (hG_m G)) (ry := some (hG_m G)) hx hb dJ5_copyOf_2_3 (tgt := 13) (by decide) (fun z => absurd rfl z) (fun _ => ?_)
  refine lv_iload_n hx hb dJ5_copyOf_2_6 rfl (lv_at hl 1 rfl) ?_
  refine hx_nRO C0 hU hH 6 (by decide) rfl q206 hU.2.2.2.1.2.1 (Nat.le_of_ble_eq_true rfl) (Nat.le_of_ble_eq_true rfl) (Nat.le_of_ble_eq_true rfl) h dJ5_copyOf_2_7 (fun b w H locs hH h => ?_)
  refine lv_goto hx hb dJ5_copyOf_2_10 (tgt := 24) (by decide) ?_
  refine hx_astore_n C0 dJ5_copyOf_2_24 rfl hl (by decide) (lv' := [(3, va_rf (some b)), (0, va_rf (some a0)), (1, .int x1), (2, va_rf (some (hG_m G)))]) rfl (fun ls hl => ?_)
  refine hx_aload_n C0 dJ5_copyOf_2_25 rfl (lv_at hl 1 rfl) ?_
  refine lv_iconst (v := 0) hx hb dJ5_copyOf_2_26 (by decide) ?_
  refine hx_aload_n C0 dJ5_copyOf_2_27 rfl (lv_at hl 0 rfl) ?_
  refine lv_iconst (v := 0) hx hb dJ5_copyOf_2_28 (by decide) ?_
  refine hx_aload_n C0 dJ5_copyOf_2_29 rfl (lv_at hl 1 rfl) ?_
  refine hx_aN C0 hU hH h dJ5_copyOf_2_30 (fun n h => ?_)
  refine lv_iload_n hx hb dJ5_copyOf_2_31 rfl (lv_at hl 2 rfl) ?_
  refine hx_Si C0 hU hH (As := [.int n, .int x1]) (wk_J4_min l h) (va_cwS 2 hts (lw_S q207 q208 q66 q209) rfl rfl rfl (by decide +kernel) ⟨Nat.le_of_ble_eq_true rfl, Nat.le_of_ble_eq_true rfl⟩) rfl hl.1 rfl (Nat.le_of_ble_eq_true rfl) dJ5_copyOf_2_32 ⟨Nat.le_of_ble_eq_true rfl, Nat.le_of_ble_eq_true rfl⟩ (fun k w H locs hH h => ?_)
  refine hx_cR C0 hU hH hl.1.symm q210 h (Nat.le_of_ble_eq_true rfl) (by decide) dJ5_copyOf_2_35 (fun w H locs hH h => ?_)
  refine hx_aload_n C0 dJ5_copyOf_2_38 rfl (lv_at hl 0 rfl) ?_
  exact hx_retq (v := some b) C0 hH hr (Or.inr ⟨_, rfl⟩) hlocks h (Nat.le_of_ble_eq_true rfl) (Nat.le_of_ble_eq_true rfl) dJ5_copyOf_2_39
abbrev rm_J5_copyOf : Room := { frames := 3, cells := 1, slots := 256, locals := 160 }
set_option maxHeartbeats 4000000 in
theorem wk_J5_copyOf (l : Launch) {G : hG} {w : Hp} {a0 : Nat} {x1 : Int32} {K : Hp → Option Nat → Prop} (h : wp_J5_copyOf w a0 x1 K) : hx_Mq l yJ5_copyOf (ws_ yJ5_copyOf cJ5_copyOf 2 (some (.array (.object "java/lang/Object")))) rm_J5_copyOf G w [.ref a0, .int x1] K 1 256 := by
  refine Met.ofW (cc := cJ5_copyOf) (maxL := 2) (ret := (some (.array (.object "java/lang/Object")))) (by decide) rfl ?_
  intro p e s m args below meth c s₁ B hml hv
  refine hx_in (own := RJ5) (av := [.ref a0, .int x1]) (vl := [(0, va_rf (some a0)), (1, .int x1)]) rfl rfl (Nat.le_of_ble_eq_true rfl) rfl B hml hv ?_
  intro C0 hU hH hr hlocks hin ls hl
  have hx := C0.1
  have hb := C0.2.1
  have hts := C0.2.2.2.2
  refine hx_aload_n C0 dJ5_copyOf_0 rfl (lv_at hl 0 rfl) ?_
  refine lv_iload_n hx hb dJ5_copyOf_1 rfl (lv_at hl 1 rfl) ?_
  refine hx_aload_n C0 dJ5_copyOf_2 rfl (lv_at hl 0 rfl) ?_
  have hrc : ∃ cell : Cell, s.heap[a0]? = some cell ∧ cell.vm.isStatics = false ∧ s.vm.findClass "[Ljava/lang/Object;" = some cell.cls := by
    obtain ⟨⟨x, hx0⟩, -⟩ := h
    obtain ⟨kA, comp, -, -, -, r4⟩ := (hU.1.2 6 _ rfl).2
    have h9 := hx_at hU hH hx0
    refine ⟨vp_cell (hG_A G 6) x, h9, ?_, ?_⟩
    · obtain ⟨n, f | f | f | f | f⟩ := x <;> rfl
    · have : (vp_cell (hG_A G 6) x).cls = hG_A G 6 := by obtain ⟨n, f | f | f | f | f⟩ := x <;> rfl
      rw [this]
      exact r4
  refine va_getC hx hb (C0.2.2.1.trans hl.1.symm) C0.2.2.2.1 (hts _ q183) (va_Dc.use hU.2.2.2.2.2.1.1) (hts _ q1501) (hts _ q184) (hts _ q200) hU.2.2.2.2.2.1.2 hrc (Nat.le_of_ble_eq_true rfl) (Nat.le_of_ble_eq_true rfl) dJ5_copyOf_3 ?_
  refine hx_Sq C0 hU hH (As := [.ref a0, .int x1, .ref (hG_m G)]) (wk_J5_copyOf_2 l h) (va_cwS 3 hts (lw_S q201 q202 q67 q203) rfl rfl rfl (by decide +kernel) ⟨Nat.le_of_ble_eq_true rfl, Nat.le_of_ble_eq_true rfl⟩) rfl hl.1 rfl (Nat.le_of_ble_eq_true rfl) dJ5_copyOf_6 ⟨Nat.le_of_ble_eq_true rfl, Nat.le_of_ble_eq_true rfl⟩ (fun r w H locs hH h => ?_)
  exact hx_retq (v := r) C0 hH hr (Or.inr ⟨_, rfl⟩) hlocks h (Nat.le_of_ble_eq_true rfl) (Nat.le_of_ble_eq_true rfl) dJ5_copyOf_9
