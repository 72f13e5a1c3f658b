/-! the class's static methods (printed by gen/gen.py: weakest preconditions and walks) -/
set_option maxRecDepth 100000
def wp_X1_power_b32 (K : Hp → Int32 → Prop) (bk11 : Hp → Int32 → Int32 → Int32 → Prop) (w : Hp) (x2 : Int32) (x3 : Int32) (x4 : Int32) : Prop :=
  nm ((x3 * x3) - (x3 * x3) / (2039 : Int32) * (2039 : Int32)) fun i_1 => nm (x4 / (2 : Int32)) fun i_2 => bk11 w x2 i_1 i_2
def wp_X1_power_s11 (K : Hp → Int32 → Prop)  (bk11 : Hp → Int32 → Int32 → Int32 → Prop) (w : Hp) (x2 : Int32) (x3 : Int32) (x4 : Int32) : Prop :=
  br (x4 ≤ 0) (K w x2) (nm (x4 - x4 / (2 : Int32) * (2 : Int32)) fun i_2 => br (i_2 = (1 : Int32)) (nm ((x2 * x3) - (x2 * x3) / (2039 : Int32) * (2039 : Int32)) fun i_4 => wp_X1_power_b32 K bk11 w i_4 x3 x4) (wp_X1_power_b32 K bk11 w x2 x3 x4))
def wp_X1_power_l11 (K : Hp → Int32 → Prop)  : ((Hp × Int32 × Int32 × Int32) → Prop) → (Hp × Int32 × Int32 × Int32) → Prop := fun bk q => wp_X1_power_s11 K  (fun w x2 x3 x4 => bk (w, x2, x3, x4)) q.1 q.2.1 q.2.2.1 q.2.2.2
def wp_X1_power_b11 (K : Hp → Int32 → Prop)  (w : Hp) (x2 : Int32) (x3 : Int32) (x4 : Int32) : Prop := lp (wp_X1_power_l11 K ) (w, x2, x3, x4)
def wp_X1_power (w : Hp) (x0 : Int32) (x1 : Int32) (K : Hp → Int32 → Prop) : Prop :=
  nm (x0 - x0 / (2039 : Int32) * (2039 : Int32)) fun i_1 => wp_X1_power_b11 K w (1 : Int32) i_1 x1
abbrev rm_X1_power : Room := { frames := 0, cells := 0, slots := 0, locals := 0 }
abbrev ws9_X1_power : List Cond := ws_ yX1_power cX1_power 5 (Option.some Jvm.ClassFile.FieldType.int)
abbrev Q9_X1_power (below : List Frame) (args : Array Value) (s : State) (G : hG) (K : Hp → Int32 → Prop) : State → Prop := MQ below (hx_Qi G K) args s 0 0 (hx_A G)
set_option maxHeartbeats 4000000 in
set_option maxRecDepth 100000 in
theorem wk_X1_power (l : Launch) {G : hG} {w : Hp} {x0 : Int32} {x1 : Int32} {K : Hp → Int32 → Prop} (h : wp_X1_power w x0 x1 K) : hx_Mi l yX1_power (ws9_X1_power) rm_X1_power G w [.int x0, .int x1] K 0 0 := by
  refine Met.ofW (cc := cX1_power) (maxL := 5) (ret := (Option.some Jvm.ClassFile.FieldType.int)) (by decide +kernel) rfl ?_
  intro p e s m args below meth c s₁ B hml hv
  refine hx_in (own := RX1) (av := [.int x0, .int x1]) (vl := [(0, .int x0), (1, .int x1)]) rfl rfl (Nat.le_of_ble_eq_true rfl) rfl B hml hv ?_
  intro C0 hU hH hr hlocks hin ls hl
  have hx := C0.1
  have hb := C0.2.1
  have hts := C0.2.2.2.2
  have L11 : ∀ (n11 : Nat) (w : Hp) (x2 : Int32) (x3 : Int32) (x4 : Int32), lpN (wp_X1_power_l11 K ) n11 (w, x2, x3, x4) → ∀ (H : Heap) (locs : List Loc) (ls : Array Slot), hx_H G w s H locs → lv_has ls 5 [(2, .int x2), (3, .int x3), (4, .int x4)] → W p l e (headSpec (ws9_X1_power) rm_X1_power).room s m args below meth c H locs (0) (0) (Q9_X1_power below args s G K) (F0 m 11 ls []) := by
    intro n11
    induction n11 with
    | zero => intro w x2 x3 x4 h; exact h.elim
    | succ n11 ih11 =>
      intro w x2 x3 x4 h H locs ls hH hl
      have h : wp_X1_power_s11 K  (fun w x2 x3 x4 => lpN (wp_X1_power_l11 K ) n11 (w, x2, x3, x4)) w x2 x3 x4 := h
      have b32 : ∀ (w : Hp) (x2 : Int32) (x3 : Int32) (x4 : Int32), wp_X1_power_b32 K (fun w x2 x3 x4 => lpN (wp_X1_power_l11 K ) n11 (w, x2, x3, x4)) w x2 x3 x4 → ∀ (H : Heap) (locs : List Loc) (ls : Array Slot), hx_H G w s H locs → lv_has ls 5 [(2, .int x2), (3, .int x3), (4, .int x4)] → W p l e (headSpec (ws9_X1_power) rm_X1_power).room s m args below meth c H locs (0) (0) (Q9_X1_power below args s G K) (F0 m 32 ls []) := by
        intro w x2 x3 x4 h H locs ls hH hl
        refine lv_iload_n hx hb dX1_power_32 rfl (lv_at hl 1 rfl) ?_
        refine lv_iload_n hx hb dX1_power_33 rfl (lv_at hl 1 rfl) ?_
        refine lv_imul hx hb dX1_power_34 ?_
        refine lv_sipush (v := 2039) hx hb dX1_power_35 (by decide) ?_
        refine lv_irem hx hb dX1_power_38 (by decide) ?_
        refine lv_topi (fun i_1 ei_1 => ?_)
        have h := h i_1 ei_1
        refine lv_istore_n hx hb dX1_power_39 rfl hl (by decide) (lv' := [(3, .int i_1), (2, .int x2), (4, .int x4)]) rfl (fun ls hl => ?_)
        refine lv_iload hx hb dX1_power_40 (lv_at hl 2 rfl) ?_
        refine lv_iconst (v := 2) hx hb dX1_power_42 (by decide) ?_
        refine lv_idiv hx hb dX1_power_43 (by decide) ?_
        refine lv_topi (fun i_2 ei_2 => ?_)
        have h := h i_2 ei_2
        refine lv_istore hx hb dX1_power_44 hl (by decide) (lv' := [(4, .int i_2), (3, .int i_1), (2, .int x2)]) rfl (fun ls hl => ?_)
        refine lv_goto hx hb dX1_power_46 (tgt := 11) (by decide) ?_
        refine W.widen (k := 0) (n := 0) (Nat.le_of_ble_eq_true rfl) (Nat.le_of_ble_eq_true rfl) ?_
        exact ih11 _ _ _ _ h _ _ _ hH (lv_sub hl [2, 1, 0] rfl)
      refine lv_iload hx hb dX1_power_11 (lv_at hl 2 rfl) ?_
      refine lv_if_le hx hb dX1_power_13 (tgt := 49) (by decide) (fun c_1 => ?_) (fun c_1 => ?_)
      · have h := h.1 c_1
        refine lv_iload_n hx hb dX1_power_49 rfl (lv_at hl 0 rfl) ?_
        exact hx_reti C0 hH hr hlocks h (Nat.le_of_ble_eq_true rfl) (Nat.le_of_ble_eq_true rfl) dX1_power_50
      · have h := h.2 c_1
        refine lv_iload hx hb dX1_power_16 (lv_at hl 2 rfl) ?_
        refine lv_iconst (v := 2) hx hb dX1_power_18 (by decide) ?_
        refine lv_irem hx hb dX1_power_19 (by decide) ?_
        refine lv_topi (fun i_2 ei_2 => ?_)
        have h := h i_2 ei_2
        refine lv_iconst (v := 1) hx hb dX1_power_20 (by decide) ?_
        refine lv_icmp_ne hx hb dX1_power_21 (tgt := 32) (by decide) (fun c_3 => ?_) (fun c_3 => ?_)
        · have h := h.2 c_3
          refine W.widen (k := 0) (n := 0) (Nat.le_of_ble_eq_true rfl) (Nat.le_of_ble_eq_true rfl) ?_
          exact b32 _ _ _ _ h _ _ _ hH (lv_sub hl [0, 1, 2] rfl)
        · have h := h.1 c_3
          refine lv_iload_n hx hb dX1_power_24 rfl (lv_at hl 0 rfl) ?_
          refine lv_iload_n hx hb dX1_power_25 rfl (lv_at hl 1 rfl) ?_
          refine lv_imul hx hb dX1_power_26 ?_
          refine lv_sipush (v := 2039) hx hb dX1_power_27 (by decide) ?_
          refine lv_irem hx hb dX1_power_30 (by decide) ?_
          refine lv_topi (fun i_4 ei_4 => ?_)
          have h := h i_4 ei_4
          refine lv_istore_n hx hb dX1_power_31 rfl hl (by decide) (lv' := [(2, .int i_4), (3, .int x3), (4, .int x4)]) rfl (fun ls hl => ?_)
          refine W.widen (k := 0) (n := 0) (Nat.le_of_ble_eq_true rfl) (Nat.le_of_ble_eq_true rfl) ?_
          exact b32 _ _ _ _ h _ _ _ hH (lv_sub hl [0, 1, 2] rfl)
  refine lv_iconst (v := 1) hx hb dX1_power_0 (by decide) ?_
  refine lv_istore_n hx hb dX1_power_1 rfl hl (by decide) (lv' := [(2, .int (1 : Int32)), (0, .int x0), (1, .int x1)]) rfl (fun ls hl => ?_)
  refine lv_iload_n hx hb dX1_power_2 rfl (lv_at hl 1 rfl) ?_
  refine lv_sipush (v := 2039) hx hb dX1_power_3 (by decide) ?_
  refine lv_irem hx hb dX1_power_6 (by decide) ?_
  refine lv_topi (fun i_1 ei_1 => ?_)
  have h := h i_1 ei_1
  refine lv_istore_n hx hb dX1_power_7 rfl hl (by decide) (lv' := [(3, .int i_1), (2, .int (1 : Int32)), (0, .int x0), (1, .int x1)]) rfl (fun ls hl => ?_)
  refine lv_iload_n hx hb dX1_power_8 rfl (lv_at hl 3 rfl) ?_
  refine lv_istore hx hb dX1_power_9 hl (by decide) (lv' := [(4, .int x1), (3, .int i_1), (2, .int (1 : Int32)), (0, .int x0), (1, .int x1)]) rfl (fun ls hl => ?_)
  obtain ⟨n9, h⟩ := h
  refine W.widen (k := 0) (n := 0) (Nat.le_of_ble_eq_true rfl) (Nat.le_of_ble_eq_true rfl) ?_
  exact L11 n9 _ _ _ _ h _ _ _ hH (lv_sub hl [2, 1, 0] rfl)
def wp_X1_mix_s11 (K : Hp → Int32 → Prop)  (bk11 : Hp → Int32 → Nat → Int32 → Int32 → Prop) (w : Hp) (x1 : Int32) (a2 : Nat) (x3 : Int32) (x4 : Int32) : Prop :=
  br (x3 ≤ x4) (br (x1 = 0) (K w (1 : Int32)) (K w x1)) (aI w a2 x4 fun i_3 => wp_J4_floorMod w ((((31 : Int32) * x1) + i_3) + (2 : Int32)) (65521 : Int32) fun w i_4 => nm (x4 + 1) fun i_5 => bk11 w i_4 a2 x3 i_5)
def wp_X1_mix_l11 (K : Hp → Int32 → Prop)  : ((Hp × Int32 × Nat × Int32 × Int32) → Prop) → (Hp × Int32 × Nat × Int32 × Int32) → Prop := fun bk q => wp_X1_mix_s11 K  (fun w x1 a2 x3 x4 => bk (w, x1, a2, x3, x4)) q.1 q.2.1 q.2.2.1 q.2.2.2.1 q.2.2.2.2
def wp_X1_mix_b11 (K : Hp → Int32 → Prop)  (w : Hp) (x1 : Int32) (a2 : Nat) (x3 : Int32) (x4 : Int32) : Prop := lp (wp_X1_mix_l11 K ) (w, x1, a2, x3, x4)
def wp_X1_mix (w : Hp) (a0 : Nat) (K : Hp → Int32 → Prop) : Prop :=
  aN w a0 fun i_1 => wp_X1_mix_b11 K w (17 : Int32) a0 i_1 (0 : Int32)
abbrev rm_X1_mix : Room := { frames := 1, cells := 0, slots := 0, locals := 22 }
abbrev ws9_X1_mix : List Cond := ws_ yX1_mix cX1_mix 6 (Option.some Jvm.ClassFile.FieldType.int)
abbrev Q9_X1_mix (below : List Frame) (args : Array Value) (s : State) (G : hG) (K : Hp → Int32 → Prop) : State → Prop := MQ below (hx_Qi G K) args s 0 0 (hx_A G)
set_option maxHeartbeats 4000000 in
set_option maxRecDepth 100000 in
theorem wk_X1_mix (l : Launch) {G : hG} {w : Hp} {a0 : Nat} {K : Hp → Int32 → Prop} (h : wp_X1_mix w a0 K) : hx_Mi l yX1_mix (ws9_X1_mix) rm_X1_mix G w [.ref a0] K 0 0 := by
  refine Met.ofW (cc := cX1_mix) (maxL := 6) (ret := (Option.some Jvm.ClassFile.FieldType.int)) (by decide +kernel) rfl ?_
  intro p e s m args below meth c s₁ B hml hv
  refine hx_in (own := RX1) (av := [.ref a0]) (vl := [(0, va_rf (some a0))]) rfl rfl (Nat.le_of_ble_eq_true rfl) rfl B hml hv ?_
  intro C0 hU hH hr hlocks hin ls hl
  have hx := C0.1
  have hb := C0.2.1
  have hts := C0.2.2.2.2
  have L11 : ∀ (n11 : Nat) (w : Hp) (x1 : Int32) (a2 : Nat) (x3 : Int32) (x4 : Int32), lpN (wp_X1_mix_l11 K ) n11 (w, x1, a2, x3, x4) → ∀ (H : Heap) (locs : List Loc) (ls : Array Slot), hx_H G w s H locs → lv_has ls 6 [(1, .int x1), (2, va_rf (some a2)), (3, .int x3), (4, .int x4)] → W p l e (headSpec (ws9_X1_mix) rm_X1_mix).room s m args below meth c H locs (0) (0) (Q9_X1_mix below args s G K) (F0 m 11 ls []) := by
    intro n11
    induction n11 with
    | zero => intro w x1 a2 x3 x4 h; exact h.elim
    | succ n11 ih11 =>
      intro w x1 a2 x3 x4 h H locs ls hH hl
      have h : wp_X1_mix_s11 K  (fun w x1 a2 x3 x4 => lpN (wp_X1_mix_l11 K ) n11 (w, x1, a2, x3, x4)) w x1 a2 x3 x4 := h
      refine lv_iload hx hb dX1_mix_11 (lv_at hl 3 rfl) ?_
      refine lv_iload_n hx hb dX1_mix_13 rfl (lv_at hl 2 rfl) ?_
      refine lv_icmp_ge hx hb dX1_mix_14 (tgt := 45) (by decide) (fun c_1 => ?_) (fun c_1 => ?_)
      · have h := h.1 c_1
        refine lv_iload_n hx hb dX1_mix_45 rfl (lv_at hl 0 rfl) ?_
        refine lv_if_ne hx hb dX1_mix_46 (tgt := 53) (by decide) (fun c_2 => ?_) (fun c_2 => ?_)
        · have h := h.2 c_2
          refine lv_iload_n hx hb dX1_mix_53 rfl (lv_at hl 0 rfl) ?_
          exact hx_reti C0 hH hr hlocks h (Nat.le_of_ble_eq_true rfl) (Nat.le_of_ble_eq_true rfl) dX1_mix_54
        · have h := h.1 c_2
          refine lv_iconst (v := 1) hx hb dX1_mix_49 (by decide) ?_
          refine lv_goto hx hb dX1_mix_50 (tgt := 54) (by decide) ?_
          exact hx_reti C0 hH hr hlocks h (Nat.le_of_ble_eq_true rfl) (Nat.le_of_ble_eq_true rfl) dX1_mix_54
      · have h := h.2 c_1
        refine hx_aload_n C0 dX1_mix_17 rfl (lv_at hl 1 rfl) ?_
        refine lv_iload hx hb dX1_mix_18 (lv_at hl 3 rfl) ?_
        refine hx_aI C0 hU hH h dX1_mix_20 (fun i_3 h => ?_)
        refine lv_istore hx hb dX1_mix_21 hl (by decide) (lv' := [(5, .int i_3), (1, .int x1), (2, va_rf (some a2)), (3, .int x3), (4, .int x4)]) rfl (fun ls hl => ?_)
        refine lv_bipush (v := 31) hx hb dX1_mix_23 (by decide) ?_
        refine lv_iload_n hx hb dX1_mix_25 rfl (lv_at hl 1 rfl) ?_
        refine lv_imul hx hb dX1_mix_26 ?_
        refine lv_iload hx hb dX1_mix_27 (lv_at hl 0 rfl) ?_
        refine lv_iadd hx hb dX1_mix_29 ?_
        refine lv_iconst (v := 2) hx hb dX1_mix_30 (by decide) ?_
        refine lv_iadd hx hb dX1_mix_31 ?_
        refine lv_ldcw (v := 65521) hx hb C0.2.2.2.1 (hts _ q457) dX1_mix_32 ?_
        refine hx_Si C0 hU hH (As := [.int ((((31 : Int32) * x1) + i_3) + (2 : Int32)), .int (65521 : Int32)]) (wk_J4_floorMod l h) (va_cwS 2 hts (lw_S q458 q459 q66 q460) rfl rfl rfl (by decide +kernel) ⟨Nat.le_of_ble_eq_true rfl, Nat.le_of_ble_eq_true rfl⟩) rfl hl.1 rfl (Nat.le_of_ble_eq_true rfl) dX1_mix_35 ⟨Nat.le_of_ble_eq_true rfl, Nat.le_of_ble_eq_true rfl⟩ (fun i_4 w H locs hH h => ?_)
        refine lv_istore_n hx hb dX1_mix_38 rfl hl (by decide) (lv' := [(1, .int i_4), (5, .int i_3), (2, va_rf (some a2)), (3, .int x3), (4, .int x4)]) rfl (fun ls hl => ?_)
        obtain ⟨i_5, ei_5⟩ : ∃ z, z = x4 + 1 := ⟨_, rfl⟩
        have h := h i_5 ei_5
        refine lv_iinc (k := 4) hx hb dX1_mix_39 hl rfl (v := i_5) (by rw [ei_5]; rfl) (by decide) (lv' := [(4, .int i_5), (1, .int i_4), (5, .int i_3), (2, va_rf (some a2)), (3, .int x3)]) rfl (fun ls hl => ?_)
        refine lv_goto hx hb dX1_mix_42 (tgt := 11) (by decide) ?_
        refine W.widen (k := 0) (n := 0) (Nat.le_of_ble_eq_true rfl) (Nat.le_of_ble_eq_true rfl) ?_
        exact ih11 _ _ _ _ _ h _ _ _ hH (lv_sub hl [1, 3, 4, 0] rfl)
  refine lv_bipush (v := 17) hx hb dX1_mix_0 (by decide) ?_
  refine lv_istore_n hx hb dX1_mix_2 rfl hl (by decide) (lv' := [(1, .int (17 : Int32)), (0, va_rf (some a0))]) rfl (fun ls hl => ?_)
  refine hx_aload_n C0 dX1_mix_3 rfl (lv_at hl 1 rfl) ?_
  refine hx_astore_n C0 dX1_mix_4 rfl hl (by decide) (lv' := [(2, va_rf (some a0)), (1, .int (17 : Int32)), (0, va_rf (some a0))]) rfl (fun ls hl => ?_)
  refine hx_aload_n C0 dX1_mix_5 rfl (lv_at hl 0 rfl) ?_
  refine hx_aN C0 hU hH h dX1_mix_6 (fun i_1 h => ?_)
  refine lv_istore_n hx hb dX1_mix_7 rfl hl (by decide) (lv' := [(3, .int i_1), (2, va_rf (some a0)), (1, .int (17 : Int32)), (0, va_rf (some a0))]) rfl (fun ls hl => ?_)
  refine lv_iconst (v := 0) hx hb dX1_mix_8 (by decide) ?_
  refine lv_istore hx hb dX1_mix_9 hl (by decide) (lv' := [(4, .int (0 : Int32)), (3, .int i_1), (2, va_rf (some a0)), (1, .int (17 : Int32)), (0, va_rf (some a0))]) rfl (fun ls hl => ?_)
  obtain ⟨n9, h⟩ := h
  refine W.widen (k := 0) (n := 0) (Nat.le_of_ble_eq_true rfl) (Nat.le_of_ble_eq_true rfl) ?_
  exact L11 n9 _ _ _ _ _ h _ _ _ hH (lv_sub hl [3, 2, 1, 0] rfl)
def wp_X1_sealOf_s17 (K : Hp → Int32 → Prop)  (bk17 : Hp → Int32 → Int64 → Int64 → Nat → Int32 → Int32 → Prop) (w : Hp) (x0 : Int32) (x2 : Int64) (x4 : Int64) (a6 : Nat) (x7 : Int32) (x8 : Int32) : Prop :=
  br (x7 ≤ x8) (K w (Int64.toInt32 x2)) (aI w a6 x8 fun i_2 => wp_J4_floorMod w (i_2 + (2 : Int32)) (65521 : Int32) fun w i_3 => nm ((x2 + (x4 * (i_3.toInt64))) - (x2 + (x4 * (i_3.toInt64))) / (65521 : Int64) * (65521 : Int64)) fun l_4 => nm ((x4 * (x0.toInt64)) - (x4 * (x0.toInt64)) / (65521 : Int64) * (65521 : Int64)) fun l_5 => nm (x8 + 1) fun i_6 => bk17 w x0 l_4 l_5 a6 x7 i_6)
def wp_X1_sealOf_l17 (K : Hp → Int32 → Prop)  : ((Hp × Int32 × Int64 × Int64 × Nat × Int32 × Int32) → Prop) → (Hp × Int32 × Int64 × Int64 × Nat × Int32 × Int32) → Prop := fun bk q => wp_X1_sealOf_s17 K  (fun w x0 x2 x4 a6 x7 x8 => bk (w, x0, x2, x4, a6, x7, x8)) q.1 q.2.1 q.2.2.1 q.2.2.2.1 q.2.2.2.2.1 q.2.2.2.2.2.1 q.2.2.2.2.2.2
def wp_X1_sealOf_b17 (K : Hp → Int32 → Prop)  (w : Hp) (x0 : Int32) (x2 : Int64) (x4 : Int64) (a6 : Nat) (x7 : Int32) (x8 : Int32) : Prop := lp (wp_X1_sealOf_l17 K ) (w, x0, x2, x4, a6, x7, x8)
def wp_X1_sealOf (w : Hp) (x0 : Int32) (a1 : Nat) (K : Hp → Int32 → Prop) : Prop :=
  nm (x0.toInt64) fun l_1 => aN w a1 fun i_2 => wp_X1_sealOf_b17 K w x0 (0 : Int64) l_1 a1 i_2 (0 : Int32)
abbrev rm_X1_sealOf : Room := { frames := 1, cells := 0, slots := 0, locals := 22 }
abbrev ws9_X1_sealOf : List Cond := ws_ yX1_sealOf cX1_sealOf 10 (Option.some Jvm.ClassFile.FieldType.int)
abbrev Q9_X1_sealOf (below : List Frame) (args : Array Value) (s : State) (G : hG) (K : Hp → Int32 → Prop) : State → Prop := MQ below (hx_Qi G K) args s 0 0 (hx_A G)
set_option maxHeartbeats 4000000 in
set_option maxRecDepth 100000 in
theorem wk_X1_sealOf (l : Launch) {G : hG} {w : Hp} {x0 : Int32} {a1 : Nat} {K : Hp → Int32 → Prop} (h : wp_X1_sealOf w x0 a1 K) : hx_Mi l yX1_sealOf (ws9_X1_sealOf) rm_X1_sealOf G w [.int x0, .ref a1] K 0 0 := by
  refine Met.ofW (cc := cX1_sealOf) (maxL := 10) (ret := (Option.some Jvm.ClassFile.FieldType.int)) (by decide +kernel) rfl ?_
  intro p e s m args below meth c s₁ B hml hv
  refine hx_in (own := RX1) (av := [.int x0, .ref a1]) (vl := [(0, .int x0), (1, va_rf (some a1))]) rfl rfl (Nat.le_of_ble_eq_true rfl) rfl B hml hv ?_
  intro C0 hU hH hr hlocks hin ls hl
  have hx := C0.1
  have hb := C0.2.1
  have hts := C0.2.2.2.2
  have L17 : ∀ (n17 : Nat) (w : Hp) (x0 : Int32) (x2 : Int64) (x4 : Int64) (a6 : Nat) (x7 : Int32) (x8 : Int32), lpN (wp_X1_sealOf_l17 K ) n17 (w, x0, x2, x4, a6, x7, x8) → ∀ (H : Heap) (locs : List Loc) (ls : Array Slot), hx_H G w s H locs → lv_has ls 10 [(0, .int x0), (2, .long x2), (4, .long x4), (6, va_rf (some a6)), (7, .int x7), (8, .int x8)] → W p l e (headSpec (ws9_X1_sealOf) rm_X1_sealOf).room s m args below meth c H locs (0) (0) (Q9_X1_sealOf below args s G K) (F0 m 17 ls []) := by
    intro n17
    induction n17 with
    | zero => intro w x0 x2 x4 a6 x7 x8 h; exact h.elim
    | succ n17 ih17 =>
      intro w x0 x2 x4 a6 x7 x8 h H locs ls hH hl
      have h : wp_X1_sealOf_s17 K  (fun w x0 x2 x4 a6 x7 x8 => lpN (wp_X1_sealOf_l17 K ) n17 (w, x0, x2, x4, a6, x7, x8)) w x0 x2 x4 a6 x7 x8 := h
      refine lv_iload hx hb dX1_sealOf_17 (lv_at hl 5 rfl) ?_
      refine lv_iload hx hb dX1_sealOf_19 (lv_at hl 4 rfl) ?_
      refine lv_icmp_ge hx hb dX1_sealOf_21 (tgt := 69) (by decide) (fun c_1 => ?_) (fun c_1 => ?_)
      · have h := h.1 c_1
        refine lv_lload_n hx hb dX1_sealOf_69 rfl (lv_at hl 1 rfl) ?_
        refine lv_l2i hx hb dX1_sealOf_70 rfl ?_
        exact hx_reti C0 hH hr hlocks h (Nat.le_of_ble_eq_true rfl) (Nat.le_of_ble_eq_true rfl) dX1_sealOf_71
      · have h := h.2 c_1
        refine hx_aload C0 dX1_sealOf_24 (lv_at hl 3 rfl) ?_
        refine lv_iload hx hb dX1_sealOf_26 (lv_at hl 5 rfl) ?_
        refine hx_aI C0 hU hH h dX1_sealOf_28 (fun i_2 h => ?_)
        refine lv_istore hx hb dX1_sealOf_29 hl (by decide) (lv' := [(9, .int i_2), (0, .int x0), (2, .long x2), (4, .long x4), (6, va_rf (some a6)), (7, .int x7), (8, .int x8)]) rfl (fun ls hl => ?_)
        refine lv_lload_n hx hb dX1_sealOf_31 rfl (lv_at hl 2 rfl) ?_
        refine lv_lload hx hb dX1_sealOf_32 (lv_at hl 3 rfl) ?_
        refine lv_iload hx hb dX1_sealOf_34 (lv_at hl 0 rfl) ?_
        refine lv_iconst (v := 2) hx hb dX1_sealOf_36 (by decide) ?_
        refine lv_iadd hx hb dX1_sealOf_37 ?_
        refine lv_ldcw (v := 65521) hx hb C0.2.2.2.1 (hts _ q457) dX1_sealOf_38 ?_
        refine hx_Si C0 hU hH (As := [.int (i_2 + (2 : Int32)), .int (65521 : Int32)]) (wk_J4_floorMod l h) (va_cwS 2 hts (lw_S q458 q459 q66 q460) rfl rfl rfl (by decide +kernel) ⟨Nat.le_of_ble_eq_true rfl, Nat.le_of_ble_eq_true rfl⟩) rfl hl.1 rfl (Nat.le_of_ble_eq_true rfl) dX1_sealOf_41 ⟨Nat.le_of_ble_eq_true rfl, Nat.le_of_ble_eq_true rfl⟩ (fun i_3 w H locs hH h => ?_)
        refine lv_i2l hx hb dX1_sealOf_44 rfl ?_
        refine lv_lmul hx hb dX1_sealOf_45 ?_
        refine lv_ladd hx hb dX1_sealOf_46 ?_
        refine lv_ldc2 (v := 65521) hx hb C0.2.2.2.1 (hts _ q461) dX1_sealOf_47 ?_
        refine lv_lrem hx hb dX1_sealOf_50 (by decide) ?_
        refine lv_topl (fun l_4 el_4 => ?_)
        have h := h l_4 el_4
        refine lv_lstore_n hx hb dX1_sealOf_51 rfl hl (by decide) (lv' := [(2, .long l_4), (9, .int i_2), (0, .int x0), (4, .long x4), (6, va_rf (some a6)), (7, .int x7), (8, .int x8)]) rfl (fun ls hl => ?_)
        refine lv_lload hx hb dX1_sealOf_52 (lv_at hl 3 rfl) ?_
        refine lv_iload_n hx hb dX1_sealOf_54 rfl (lv_at hl 2 rfl) ?_
        refine lv_i2l hx hb dX1_sealOf_55 rfl ?_
        refine lv_lmul hx hb dX1_sealOf_56 ?_
        refine lv_ldc2 (v := 65521) hx hb C0.2.2.2.1 (hts _ q461) dX1_sealOf_57 ?_
        refine lv_lrem hx hb dX1_sealOf_60 (by decide) ?_
        refine lv_topl (fun l_5 el_5 => ?_)
        have h := h l_5 el_5
        refine lv_lstore hx hb dX1_sealOf_61 hl (by decide) (lv' := [(4, .long l_5), (2, .long l_4), (9, .int i_2), (0, .int x0), (6, va_rf (some a6)), (7, .int x7), (8, .int x8)]) rfl (fun ls hl => ?_)
        obtain ⟨i_6, ei_6⟩ : ∃ z, z = x8 + 1 := ⟨_, rfl⟩
        have h := h i_6 ei_6
        refine lv_iinc (k := 6) hx hb dX1_sealOf_63 hl rfl (v := i_6) (by rw [ei_6]; rfl) (by decide) (lv' := [(8, .int i_6), (4, .long l_5), (2, .long l_4), (9, .int i_2), (0, .int x0), (6, va_rf (some a6)), (7, .int x7)]) rfl (fun ls hl => ?_)
        refine lv_goto hx hb dX1_sealOf_66 (tgt := 17) (by decide) ?_
        refine W.widen (k := 0) (n := 0) (Nat.le_of_ble_eq_true rfl) (Nat.le_of_ble_eq_true rfl) ?_
        exact ih17 _ _ _ _ _ _ _ h _ _ _ hH (lv_sub hl [4, 2, 1, 5, 6, 0] rfl)
  refine lv_lconst (v := 0) hx hb dX1_sealOf_0 (by decide) ?_
  refine lv_lstore_n hx hb dX1_sealOf_1 rfl hl (by decide) (lv' := [(2, .long (0 : Int64)), (0, .int x0), (1, va_rf (some a1))]) rfl (fun ls hl => ?_)
  refine lv_iload_n hx hb dX1_sealOf_2 rfl (lv_at hl 1 rfl) ?_
  refine lv_i2l hx hb dX1_sealOf_3 rfl ?_
  refine lv_topl (fun l_1 el_1 => ?_)
  have h := h l_1 el_1
  refine lv_lstore hx hb dX1_sealOf_4 hl (by decide) (lv' := [(4, .long l_1), (2, .long (0 : Int64)), (0, .int x0), (1, va_rf (some a1))]) rfl (fun ls hl => ?_)
  refine hx_aload_n C0 dX1_sealOf_6 rfl (lv_at hl 3 rfl) ?_
  refine hx_astore C0 dX1_sealOf_7 hl (by decide) (lv' := [(6, va_rf (some a1)), (4, .long l_1), (2, .long (0 : Int64)), (0, .int x0), (1, va_rf (some a1))]) rfl (fun ls hl => ?_)
  refine hx_aload C0 dX1_sealOf_9 (lv_at hl 0 rfl) ?_
  refine hx_aN C0 hU hH h dX1_sealOf_11 (fun i_2 h => ?_)
  refine lv_istore hx hb dX1_sealOf_12 hl (by decide) (lv' := [(7, .int i_2), (6, va_rf (some a1)), (4, .long l_1), (2, .long (0 : Int64)), (0, .int x0), (1, va_rf (some a1))]) rfl (fun ls hl => ?_)
  refine lv_iconst (v := 0) hx hb dX1_sealOf_14 (by decide) ?_
  refine lv_istore hx hb dX1_sealOf_15 hl (by decide) (lv' := [(8, .int (0 : Int32)), (7, .int i_2), (6, va_rf (some a1)), (4, .long l_1), (2, .long (0 : Int64)), (0, .int x0), (1, va_rf (some a1))]) rfl (fun ls hl => ?_)
  obtain ⟨n9, h⟩ := h
  refine W.widen (k := 0) (n := 0) (Nat.le_of_ble_eq_true rfl) (Nat.le_of_ble_eq_true rfl) ?_
  exact L17 n9 _ _ _ _ _ _ _ h _ _ _ hH (lv_sub hl [5, 4, 3, 2, 1, 0] rfl)
def wp_X1_cut (w : Hp) (x0 : Int32) (x1 : Int32) (K : Hp → Int32 → Prop) : Prop :=
  br (x1 = 0) (K w (0 : Int32)) (K w ((x0 >>> (((8 : Int32) - x1) &&& 31)) <<< (((8 : Int32) - x1) &&& 31)))
abbrev rm_X1_cut : Room := { frames := 0, cells := 0, slots := 0, locals := 0 }
abbrev ws9_X1_cut : List Cond := ws_ yX1_cut cX1_cut 2 (Option.some Jvm.ClassFile.FieldType.int)
abbrev Q9_X1_cut (below : List Frame) (args : Array Value) (s : State) (G : hG) (K : Hp → Int32 → Prop) : State → Prop := MQ below (hx_Qi G K) args s 0 0 (hx_A G)
set_option maxHeartbeats 4000000 in
set_option maxRecDepth 100000 in
theorem wk_X1_cut (l : Launch) {G : hG} {w : Hp} {x0 : Int32} {x1 : Int32} {K : Hp → Int32 → Prop} (h : wp_X1_cut w x0 x1 K) : hx_Mi l yX1_cut (ws9_X1_cut) rm_X1_cut G w [.int x0, .int x1] K 0 0 := by
  refine Met.ofW (cc := cX1_cut) (maxL := 2) (ret := (Option.some Jvm.ClassFile.FieldType.int)) (by decide +kernel) rfl ?_
  intro p e s m args below meth c s₁ B hml hv
  refine hx_in (own := RX1) (av := [.int x0, .int x1]) (vl := [(0, .int x0), (1, .int x1)]) rfl rfl (Nat.le_of_ble_eq_true rfl) rfl B hml hv ?_
  intro C0 hU hH hr hlocks hin ls hl
  have hx := C0.1
  have hb := C0.2.1
  have hts := C0.2.2.2.2
  refine lv_iload_n hx hb dX1_cut_0 rfl (lv_at hl 1 rfl) ?_
  refine lv_if_ne hx hb dX1_cut_1 (tgt := 8) (by decide) (fun c_1 => ?_) (fun c_1 => ?_)
  · have h := h.2 c_1
    refine lv_iload_n hx hb dX1_cut_8 rfl (lv_at hl 0 rfl) ?_
    refine lv_bipush (v := 8) hx hb dX1_cut_9 (by decide) ?_
    refine lv_iload_n hx hb dX1_cut_11 rfl (lv_at hl 1 rfl) ?_
    refine lv_isub hx hb dX1_cut_12 ?_
    refine lv_ishr hx hb dX1_cut_13 ?_
    refine lv_bipush (v := 8) hx hb dX1_cut_14 (by decide) ?_
    refine lv_iload_n hx hb dX1_cut_16 rfl (lv_at hl 1 rfl) ?_
    refine lv_isub hx hb dX1_cut_17 ?_
    refine lv_ishl hx hb dX1_cut_18 ?_
    exact hx_reti C0 hH hr hlocks h (Nat.le_of_ble_eq_true rfl) (Nat.le_of_ble_eq_true rfl) dX1_cut_19
  · have h := h.1 c_1
    refine lv_iconst (v := 0) hx hb dX1_cut_4 (by decide) ?_
    refine lv_goto hx hb dX1_cut_5 (tgt := 19) (by decide) ?_
    exact hx_reti C0 hH hr hlocks h (Nat.le_of_ble_eq_true rfl) (Nat.le_of_ble_eq_true rfl) dX1_cut_19
def wp_X1_drawn (w : Hp) (x0 : Int32) (K : Hp → Int32 → Prop) : Prop :=
  nm (((577 : Int64) * (x0.toInt64)) - ((577 : Int64) * (x0.toInt64)) / (1018 : Int64) * (1018 : Int64)) fun l_1 => K w ((1 : Int32) + (Int64.toInt32 l_1))
abbrev rm_X1_drawn : Room := { frames := 0, cells := 0, slots := 0, locals := 0 }
abbrev ws9_X1_drawn : List Cond := ws_ yX1_drawn cX1_drawn 1 (Option.some Jvm.ClassFile.FieldType.int)
abbrev Q9_X1_drawn (below : List Frame) (args : Array Value) (s : State) (G : hG) (K : Hp → Int32 → Prop) : State → Prop := MQ below (hx_Qi G K) args s 0 0 (hx_A G)
set_option maxHeartbeats 4000000 in
set_option maxRecDepth 100000 in
theorem wk_X1_drawn (l : Launch) {G : hG} {w : Hp} {x0 : Int32} {K : Hp → Int32 → Prop} (h : wp_X1_drawn w x0 K) : hx_Mi l yX1_drawn (ws9_X1_drawn) rm_X1_drawn G w [.int x0] K 0 0 := by
  refine Met.ofW (cc := cX1_drawn) (maxL := 1) (ret := (Option.some Jvm.ClassFile.FieldType.int)) (by decide +kernel) rfl ?_
  intro p e s m args below meth c s₁ B hml hv
  refine hx_in (own := RX1) (av := [.int x0]) (vl := [(0, .int x0)]) rfl rfl (Nat.le_of_ble_eq_true rfl) rfl B hml hv ?_
  intro C0 hU hH hr hlocks hin ls hl
  have hx := C0.1
  have hb := C0.2.1
  have hts := C0.2.2.2.2
  refine lv_iconst (v := 1) hx hb dX1_drawn_0 (by decide) ?_
  refine lv_ldc2 (v := 577) hx hb C0.2.2.2.1 (hts _ q692) dX1_drawn_1 ?_
  refine lv_iload_n hx hb dX1_drawn_4 rfl (lv_at hl 0 rfl) ?_
  refine lv_i2l hx hb dX1_drawn_5 rfl ?_
  refine lv_lmul hx hb dX1_drawn_6 ?_
  refine lv_ldc2 (v := 1018) hx hb C0.2.2.2.1 (hts _ q693) dX1_drawn_7 ?_
  refine lv_lrem hx hb dX1_drawn_10 (by decide) ?_
  refine lv_topl (fun l_1 el_1 => ?_)
  have h := h l_1 el_1
  refine lv_l2i hx hb dX1_drawn_11 rfl ?_
  refine lv_iadd hx hb dX1_drawn_12 ?_
  exact hx_reti C0 hH hr hlocks h (Nat.le_of_ble_eq_true rfl) (Nat.le_of_ble_eq_true rfl) dX1_drawn_13
def wp_X1_secretOf (w : Hp) (x0 : Int32) (K : Hp → Int32 → Prop) : Prop :=
  K w ((211 : Int32) + ((307 : Int32) * x0))
abbrev rm_X1_secretOf : Room := { frames := 0, cells := 0, slots := 0, locals := 0 }
abbrev ws9_X1_secretOf : List Cond := ws_ yX1_secretOf cX1_secretOf 1 (Option.some Jvm.ClassFile.FieldType.int)
abbrev Q9_X1_secretOf (below : List Frame) (args : Array Value) (s : State) (G : hG) (K : Hp → Int32 → Prop) : State → Prop := MQ below (hx_Qi G K) args s 0 0 (hx_A G)
set_option maxHeartbeats 4000000 in
set_option maxRecDepth 100000 in
theorem wk_X1_secretOf (l : Launch) {G : hG} {w : Hp} {x0 : Int32} {K : Hp → Int32 → Prop} (h : wp_X1_secretOf w x0 K) : hx_Mi l yX1_secretOf (ws9_X1_secretOf) rm_X1_secretOf G w [.int x0] K 0 0 := by
  refine Met.ofW (cc := cX1_secretOf) (maxL := 1) (ret := (Option.some Jvm.ClassFile.FieldType.int)) (by decide +kernel) rfl ?_
  intro p e s m args below meth c s₁ B hml hv
  refine hx_in (own := RX1) (av := [.int x0]) (vl := [(0, .int x0)]) rfl rfl (Nat.le_of_ble_eq_true rfl) rfl B hml hv ?_
  intro C0 hU hH hr hlocks hin ls hl
  have hx := C0.1
  have hb := C0.2.1
  have hts := C0.2.2.2.2
  refine lv_sipush (v := 211) hx hb dX1_secretOf_0 (by decide) ?_
  refine lv_sipush (v := 307) hx hb dX1_secretOf_3 (by decide) ?_
  refine lv_iload_n hx hb dX1_secretOf_6 rfl (lv_at hl 0 rfl) ?_
  refine lv_imul hx hb dX1_secretOf_7 ?_
  refine lv_iadd hx hb dX1_secretOf_8 ?_
  exact hx_reti C0 hH hr hlocks h (Nat.le_of_ble_eq_true rfl) (Nat.le_of_ble_eq_true rfl) dX1_secretOf_9
def wp_X1_publicNumber (w : Hp) (x0 : Int32) (K : Hp → Int32 → Prop) : Prop :=
  wp_X1_secretOf w x0 fun w i_1 => wp_X1_power w (7 : Int32) i_1 fun w i_2 => K w i_2
abbrev rm_X1_publicNumber : Room := { frames := 1, cells := 0, slots := 0, locals := 24 }
abbrev ws9_X1_publicNumber : List Cond := ws_ yX1_publicNumber cX1_publicNumber 1 (Option.some Jvm.ClassFile.FieldType.int)
abbrev Q9_X1_publicNumber (below : List Frame) (args : Array Value) (s : State) (G : hG) (K : Hp → Int32 → Prop) : State → Prop := MQ below (hx_Qi G K) args s 0 0 (hx_A G)
set_option maxHeartbeats 4000000 in
set_option maxRecDepth 100000 in
theorem wk_X1_publicNumber (l : Launch) {G : hG} {w : Hp} {x0 : Int32} {K : Hp → Int32 → Prop} (h : wp_X1_publicNumber w x0 K) : hx_Mi l yX1_publicNumber (ws9_X1_publicNumber) rm_X1_publicNumber G w [.int x0] K 0 0 := by
  refine Met.ofW (cc := cX1_publicNumber) (maxL := 1) (ret := (Option.some Jvm.ClassFile.FieldType.int)) (by decide +kernel) rfl ?_
  intro p e s m args below meth c s₁ B hml hv
  refine hx_in (own := RX1) (av := [.int x0]) (vl := [(0, .int x0)]) rfl rfl (Nat.le_of_ble_eq_true rfl) rfl B hml hv ?_
  intro C0 hU hH hr hlocks hin ls hl
  have hx := C0.1
  have hb := C0.2.1
  have hts := C0.2.2.2.2
  refine lv_bipush (v := 7) hx hb dX1_publicNumber_0 (by decide) ?_
  refine lv_iload_n hx hb dX1_publicNumber_2 rfl (lv_at hl 0 rfl) ?_
  refine hx_Si C0 hU hH (As := [.int x0]) (wk_X1_secretOf l h) (va_cwS 1 hts (lw_S q701 q702 q60 q703) rfl rfl rfl (by decide +kernel) ⟨Nat.le_of_ble_eq_true rfl, Nat.le_of_ble_eq_true rfl⟩) rfl hl.1 rfl (Nat.le_of_ble_eq_true rfl) dX1_publicNumber_3 ⟨Nat.le_of_ble_eq_true rfl, Nat.le_of_ble_eq_true rfl⟩ (fun i_1 w H locs hH h => ?_)
  refine hx_Si C0 hU hH (As := [.int (7 : Int32), .int i_1]) (wk_X1_power l h) (va_cwS 2 hts (lw_S q694 q695 q60 q696) rfl rfl rfl (by decide +kernel) ⟨Nat.le_of_ble_eq_true rfl, Nat.le_of_ble_eq_true rfl⟩) rfl hl.1 rfl (Nat.le_of_ble_eq_true rfl) dX1_publicNumber_6 ⟨Nat.le_of_ble_eq_true rfl, Nat.le_of_ble_eq_true rfl⟩ (fun i_2 w H locs hH h => ?_)
  exact hx_reti C0 hH hr hlocks h (Nat.le_of_ble_eq_true rfl) (Nat.le_of_ble_eq_true rfl) dX1_publicNumber_9
def wp_X1_isOut_b12 (K : Hp → Int32 → Prop)  (w : Hp)  : Prop :=
  K w (1 : Int32)
def wp_X1_isOut (w : Hp) (x0 : Int32) (K : Hp → Int32 → Prop) : Prop :=
  br (x0 < (-1 : Int32)) (wp_X1_isOut_b12 K w) (br (x0 ≤ (9999 : Int32)) (K w (0 : Int32)) (wp_X1_isOut_b12 K w))
abbrev rm_X1_isOut : Room := { frames := 0, cells := 0, slots := 0, locals := 0 }
abbrev ws9_X1_isOut : List Cond := ws_ yX1_isOut cX1_isOut 1 (Option.some Jvm.ClassFile.FieldType.boolean)
abbrev Q9_X1_isOut (below : List Frame) (args : Array Value) (s : State) (G : hG) (K : Hp → Int32 → Prop) : State → Prop := MQ below (hx_Qi G K) args s 0 0 (hx_A G)
set_option maxHeartbeats 4000000 in
set_option maxRecDepth 100000 in
theorem wk_X1_isOut (l : Launch) {G : hG} {w : Hp} {x0 : Int32} {K : Hp → Int32 → Prop} (h : wp_X1_isOut w x0 K) : hx_Mi l yX1_isOut (ws9_X1_isOut) rm_X1_isOut G w [.int x0] K 0 0 := by
  refine Met.ofW (cc := cX1_isOut) (maxL := 1) (ret := (Option.some Jvm.ClassFile.FieldType.boolean)) (by decide +kernel) rfl ?_
  intro p e s m args below meth c s₁ B hml hv
  refine hx_in (own := RX1) (av := [.int x0]) (vl := [(0, .int x0)]) rfl rfl (Nat.le_of_ble_eq_true rfl) rfl B hml hv ?_
  intro C0 hU hH hr hlocks hin ls hl
  have hx := C0.1
  have hb := C0.2.1
  have hts := C0.2.2.2.2
  have b12 : ∀ (w : Hp) , wp_X1_isOut_b12 K  w  → ∀ (H : Heap) (locs : List Loc) (ls : Array Slot), hx_H G w s H locs → lv_has ls 1 [] → W p l e (headSpec (ws9_X1_isOut) rm_X1_isOut).room s m args below meth c H locs (0) (0) (Q9_X1_isOut below args s G K) (F0 m 12 ls []) := by
    intro w  h H locs ls hH hl
    refine lv_iconst (v := 1) hx hb dX1_isOut_12 (by decide) ?_
    refine lv_goto hx hb dX1_isOut_13 (tgt := 17) (by decide) ?_
    exact hx_retz C0 hH hr hlocks (Or.inr rfl) h (Nat.le_of_ble_eq_true rfl) (Nat.le_of_ble_eq_true rfl) dX1_isOut_17
  refine lv_iload_n hx hb dX1_isOut_0 rfl (lv_at hl 0 rfl) ?_
  refine lv_iconst (v := -1) hx hb dX1_isOut_1 (by decide) ?_
  refine lv_icmp_lt hx hb dX1_isOut_2 (tgt := 12) (by decide) (fun c_1 => ?_) (fun c_1 => ?_)
  · have h := h.1 c_1
    refine W.widen (k := 0) (n := 0) (Nat.le_of_ble_eq_true rfl) (Nat.le_of_ble_eq_true rfl) ?_
    exact b12 _  h _ _ _ hH (lv_sub hl [] rfl)
  · have h := h.2 c_1
    refine lv_iload_n hx hb dX1_isOut_5 rfl (lv_at hl 0 rfl) ?_
    refine lv_sipush (v := 9999) hx hb dX1_isOut_6 (by decide) ?_
    refine lv_icmp_le hx hb dX1_isOut_9 (tgt := 16) (by decide) (fun c_2 => ?_) (fun c_2 => ?_)
    · have h := h.1 c_2
      refine lv_iconst (v := 0) hx hb dX1_isOut_16 (by decide) ?_
      exact hx_retz C0 hH hr hlocks (Or.inl rfl) h (Nat.le_of_ble_eq_true rfl) (Nat.le_of_ble_eq_true rfl) dX1_isOut_17
    · have h := h.2 c_2
      refine W.widen (k := 0) (n := 0) (Nat.le_of_ble_eq_true rfl) (Nat.le_of_ble_eq_true rfl) ?_
      exact b12 _  h _ _ _ hH (lv_sub hl [] rfl)
