/-! Math (printed by gen/gen.py: weakest preconditions and walks) -/
set_option maxRecDepth 100000
def wp_J4_max (w : Hp) (x0 : Int32) (x1 : Int32) (K : Hp → Int32 → Prop) : Prop :=
  br (x0 < x1) (K w x1) (K w x0)
abbrev rm_J4_max : Room := { frames := 0, cells := 0, slots := 0, locals := 0 }
abbrev ws9_J4_max : List Cond := ws_ yJ4_max cJ4_max 2 (Option.some Jvm.ClassFile.FieldType.int)
abbrev Q9_J4_max (below : List Frame) (args : Array Value) (s : State) (G : hG) (K : Hp → Int32 → Prop) : State → Prop := MQ below (hx_Qi G K) args s 0 0 (hx_A G)
set_option maxHeartbeats 4000000 in
set_option maxRecDepth 100000 in
theorem wk_J4_max (l : Launch) {G : hG} {w : Hp} {x0 : Int32} {x1 : Int32} {K : Hp → Int32 → Prop} (h : wp_J4_max w x0 x1 K) : hx_Mi l yJ4_max (ws9_J4_max) rm_J4_max G w [.int x0, .int x1] K 0 0 := by
  refine hx_ofWF (cc := cJ4_max) (maxL := 2) (ret := (Option.some Jvm.ClassFile.FieldType.int)) (by decide +kernel) rfl ?_
  intro p e s m args below meth c s₁ B hml hv
  refine hx_in (own := RJ4) (av := [.int x0, .int x1]) (vl := [(0, .int x0), (1, .int x1)]) rfl rfl (Nat.le_of_ble_eq_true rfl) rfl B hml hv ?_
  intro C0 hU hH hr hlocks hin ls hl
  have hx := C0.1
  have hb := C0.2.1
  have hts := C0.2.2.2.2
  refine lv_iload_n hx hb dJ4_max_0 rfl (lv_at hl 0 rfl) ?_
  refine lv_iload_n hx hb dJ4_max_1 rfl (lv_at hl 1 rfl) ?_
  refine lv_icmp_lt hx hb dJ4_max_2 (tgt := 9) (by decide) (fun c_1 => ?_) (fun c_1 => ?_)
  · have h := h.1 c_1
    refine lv_iload_n hx hb dJ4_max_9 rfl (lv_at hl 1 rfl) ?_
    exact hx_reti C0 hH hr hlocks h (Nat.le_of_ble_eq_true rfl) (Nat.le_of_ble_eq_true rfl) dJ4_max_10
  · have h := h.2 c_1
    refine lv_iload_n hx hb dJ4_max_5 rfl (lv_at hl 0 rfl) ?_
    refine lv_goto hx hb dJ4_max_6 (tgt := 10) (by decide) ?_
    exact hx_reti C0 hH hr hlocks h (Nat.le_of_ble_eq_true rfl) (Nat.le_of_ble_eq_true rfl) dJ4_max_10
def wp_J4_min (w : Hp) (x0 : Int32) (x1 : Int32) (K : Hp → Int32 → Prop) : Prop :=
  br (x1 < x0) (K w x1) (K w x0)
abbrev rm_J4_min : Room := { frames := 0, cells := 0, slots := 0, locals := 0 }
abbrev ws9_J4_min : List Cond := ws_ yJ4_min cJ4_min 2 (Option.some Jvm.ClassFile.FieldType.int)
abbrev Q9_J4_min (below : List Frame) (args : Array Value) (s : State) (G : hG) (K : Hp → Int32 → Prop) : State → Prop := MQ below (hx_Qi G K) args s 0 0 (hx_A G)
set_option maxHeartbeats 4000000 in
set_option maxRecDepth 100000 in
theorem wk_J4_min (l : Launch) {G : hG} {w : Hp} {x0 : Int32} {x1 : Int32} {K : Hp → Int32 → Prop} (h : wp_J4_min w x0 x1 K) : hx_Mi l yJ4_min (ws9_J4_min) rm_J4_min G w [.int x0, .int x1] K 0 0 := by
  refine hx_ofWF (cc := cJ4_min) (maxL := 2) (ret := (Option.some Jvm.ClassFile.FieldType.int)) (by decide +kernel) rfl ?_
  intro p e s m args below meth c s₁ B hml hv
  refine hx_in (own := RJ4) (av := [.int x0, .int x1]) (vl := [(0, .int x0), (1, .int x1)]) rfl rfl (Nat.le_of_ble_eq_true rfl) rfl B hml hv ?_
  intro C0 hU hH hr hlocks hin ls hl
  have hx := C0.1
  have hb := C0.2.1
  have hts := C0.2.2.2.2
  refine lv_iload_n hx hb dJ4_min_0 rfl (lv_at hl 0 rfl) ?_
  refine lv_iload_n hx hb dJ4_min_1 rfl (lv_at hl 1 rfl) ?_
  refine lv_icmp_gt hx hb dJ4_min_2 (tgt := 9) (by decide) (fun c_1 => ?_) (fun c_1 => ?_)
  · have h := h.1 c_1
    refine lv_iload_n hx hb dJ4_min_9 rfl (lv_at hl 1 rfl) ?_
    exact hx_reti C0 hH hr hlocks h (Nat.le_of_ble_eq_true rfl) (Nat.le_of_ble_eq_true rfl) dJ4_min_10
  · have h := h.2 c_1
    refine lv_iload_n hx hb dJ4_min_5 rfl (lv_at hl 0 rfl) ?_
    refine lv_goto hx hb dJ4_min_6 (tgt := 10) (by decide) ?_
    exact hx_reti C0 hH hr hlocks h (Nat.le_of_ble_eq_true rfl) (Nat.le_of_ble_eq_true rfl) dJ4_min_10
def wp_J4_floorMod (w : Hp) (x0 : Int32) (x1 : Int32) (K : Hp → Int32 → Prop) : Prop :=
  gd (¬ x1 = 0) <| nm (x0 - x0 / x1 * x1) fun i_1 => br (0 ≤ (x0 ^^^ x1)) (K w i_1) (br (i_1 = 0) (K w i_1) (K w (i_1 + x1)))
abbrev rm_J4_floorMod : Room := { frames := 0, cells := 0, slots := 0, locals := 0 }
abbrev ws9_J4_floorMod : List Cond := ws_ yJ4_floorMod cJ4_floorMod 3 (Option.some Jvm.ClassFile.FieldType.int)
abbrev Q9_J4_floorMod (below : List Frame) (args : Array Value) (s : State) (G : hG) (K : Hp → Int32 → Prop) : State → Prop := MQ below (hx_Qi G K) args s 0 0 (hx_A G)
set_option maxHeartbeats 4000000 in
set_option maxRecDepth 100000 in
theorem wk_J4_floorMod (l : Launch) {G : hG} {w : Hp} {x0 : Int32} {x1 : Int32} {K : Hp → Int32 → Prop} (h : wp_J4_floorMod w x0 x1 K) : hx_Mi l yJ4_floorMod (ws9_J4_floorMod) rm_J4_floorMod G w [.int x0, .int x1] K 0 0 := by
  refine hx_ofWF (cc := cJ4_floorMod) (maxL := 3) (ret := (Option.some Jvm.ClassFile.FieldType.int)) (by decide +kernel) rfl ?_
  intro p e s m args below meth c s₁ B hml hv
  refine hx_in (own := RJ4) (av := [.int x0, .int x1]) (vl := [(0, .int x0), (1, .int x1)]) rfl rfl (Nat.le_of_ble_eq_true rfl) rfl B hml hv ?_
  intro C0 hU hH hr hlocks hin ls hl
  have hx := C0.1
  have hb := C0.2.1
  have hts := C0.2.2.2.2
  refine lv_iload_n hx hb dJ4_floorMod_0 rfl (lv_at hl 0 rfl) ?_
  refine lv_iload_n hx hb dJ4_floorMod_1 rfl (lv_at hl 1 rfl) ?_
  obtain ⟨hg, h⟩ := h
  refine lv_irem hx hb dJ4_floorMod_2 hg ?_
  refine lv_topi (fun i_1 ei_1 => ?_)
  have h := h i_1 ei_1
  refine lv_istore_n hx hb dJ4_floorMod_3 rfl hl (by decide) (lv' := [(2, .int i_1), (0, .int x0), (1, .int x1)]) rfl (fun ls hl => ?_)
  refine lv_iload_n hx hb dJ4_floorMod_4 rfl (lv_at hl 1 rfl) ?_
  refine lv_iload_n hx hb dJ4_floorMod_5 rfl (lv_at hl 2 rfl) ?_
  refine lv_ixor hx hb dJ4_floorMod_6 ?_
  refine lv_if_ge hx hb dJ4_floorMod_7 (tgt := 18) (by decide) (fun c_2 => ?_) (fun c_2 => ?_)
  · have h := h.1 c_2
    refine lv_iload_n hx hb dJ4_floorMod_18 rfl (lv_at hl 0 rfl) ?_
    exact hx_reti C0 hH hr hlocks h (Nat.le_of_ble_eq_true rfl) (Nat.le_of_ble_eq_true rfl) dJ4_floorMod_19
  · have h := h.2 c_2
    refine lv_iload_n hx hb dJ4_floorMod_10 rfl (lv_at hl 0 rfl) ?_
    refine lv_if_eq hx hb dJ4_floorMod_11 (tgt := 18) (by decide) (fun c_3 => ?_) (fun c_3 => ?_)
    · have h := h.1 c_3
      refine lv_iload_n hx hb dJ4_floorMod_18 rfl (lv_at hl 0 rfl) ?_
      exact hx_reti C0 hH hr hlocks h (Nat.le_of_ble_eq_true rfl) (Nat.le_of_ble_eq_true rfl) dJ4_floorMod_19
    · have h := h.2 c_3
      refine lv_iload_n hx hb dJ4_floorMod_14 rfl (lv_at hl 0 rfl) ?_
      refine lv_iload_n hx hb dJ4_floorMod_15 rfl (lv_at hl 2 rfl) ?_
      refine lv_iadd hx hb dJ4_floorMod_16 ?_
      exact hx_reti C0 hH hr hlocks h (Nat.le_of_ble_eq_true rfl) (Nat.le_of_ble_eq_true rfl) dJ4_floorMod_17
def wp_J4_abs (w : Hp) (x0 : Int32) (K : Hp → Int32 → Prop) : Prop :=
  br (0 ≤ x0) (K w x0) (K w (-x0))
abbrev rm_J4_abs : Room := { frames := 0, cells := 0, slots := 0, locals := 0 }
abbrev ws9_J4_abs : List Cond := ws_ yJ4_abs cJ4_abs 1 (Option.some Jvm.ClassFile.FieldType.int)
abbrev Q9_J4_abs (below : List Frame) (args : Array Value) (s : State) (G : hG) (K : Hp → Int32 → Prop) : State → Prop := MQ below (hx_Qi G K) args s 0 0 (hx_A G)
set_option maxHeartbeats 4000000 in
set_option maxRecDepth 100000 in
theorem wk_J4_abs (l : Launch) {G : hG} {w : Hp} {x0 : Int32} {K : Hp → Int32 → Prop} (h : wp_J4_abs w x0 K) : hx_Mi l yJ4_abs (ws9_J4_abs) rm_J4_abs G w [.int x0] K 0 0 := by
  refine hx_ofWF (cc := cJ4_abs) (maxL := 1) (ret := (Option.some Jvm.ClassFile.FieldType.int)) (by decide +kernel) rfl ?_
  intro p e s m args below meth c s₁ B hml hv
  refine hx_in (own := RJ4) (av := [.int x0]) (vl := [(0, .int x0)]) rfl rfl (Nat.le_of_ble_eq_true rfl) rfl B hml hv ?_
  intro C0 hU hH hr hlocks hin ls hl
  have hx := C0.1
  have hb := C0.2.1
  have hts := C0.2.2.2.2
  refine lv_iload_n hx hb dJ4_abs_0 rfl (lv_at hl 0 rfl) ?_
  refine lv_if_ge hx hb dJ4_abs_1 (tgt := 9) (by decide) (fun c_1 => ?_) (fun c_1 => ?_)
  · have h := h.1 c_1
    refine lv_iload_n hx hb dJ4_abs_9 rfl (lv_at hl 0 rfl) ?_
    exact hx_reti C0 hH hr hlocks h (Nat.le_of_ble_eq_true rfl) (Nat.le_of_ble_eq_true rfl) dJ4_abs_10
  · have h := h.2 c_1
    refine lv_iload_n hx hb dJ4_abs_4 rfl (lv_at hl 0 rfl) ?_
    refine lv_ineg hx hb dJ4_abs_5 ?_
    refine lv_goto hx hb dJ4_abs_6 (tgt := 10) (by decide) ?_
    exact hx_reti C0 hH hr hlocks h (Nat.le_of_ble_eq_true rfl) (Nat.le_of_ble_eq_true rfl) dJ4_abs_10
