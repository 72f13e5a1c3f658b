/-! the JDK's methods (printed by gen/gen.py: weakest preconditions and walks) -/
set_option maxRecDepth 100000
def wp_J0_init (w : Hp) (a0 : Nat) (K : Hp → Prop) : Prop :=
  K w
abbrev rm_J0_init : Room := { frames := 1, cells := 0, slots := 0, locals := 12 }
abbrev ws9_J0_init : List Cond := ws_ yJ0_init cJ0_init 1 none
abbrev Q9_J0_init (below : List Frame) (args : Array Value) (s : State) (G : hG) (K : Hp → Prop) : State → Prop := MQ below (hx_Qv G K) args s 0 0 (hx_A G)
set_option maxHeartbeats 4000000 in
set_option maxRecDepth 100000 in
theorem wk_J0_init (l : Launch) {G : hG} {w : Hp} {a0 : Nat} {K : Hp → Prop} (h : wp_J0_init w a0 K) : hx_Mv l yJ0_init (ws9_J0_init) rm_J0_init G w [.ref a0] K 0 0 := by
  refine Met.ofW (cc := cJ0_init) (maxL := 1) (ret := none) (by decide +kernel) rfl ?_
  intro p e s m args below meth c s₁ B hml hv
  refine hx_in (own := RJ0) (av := [.ref a0]) (vl := [(0, va_rf (some a0))]) rfl rfl (Nat.le_of_ble_eq_true rfl) rfl B hml hv ?_
  intro C0 hU hH hr hlocks hin ls hl
  have hx := C0.1
  have hb := C0.2.1
  have hts := C0.2.2.2.2
  refine hx_aload_n C0 dJ0_init_0 rfl (lv_at hl 0 rfl) ?_
  refine W.objInit hx hb C0.2.2.2.1 (hts _ q112) (hts _ q93) (hts _ q94) rfl (by rw [C0.2.2.1]; exact hl.1) rfl dJ0_init_1 (Nat.le_of_ble_eq_true rfl) (Nat.le_of_ble_eq_true rfl) ?_
  refine W.eq (g2 := F0 m 4 ls []) rfl ?_
  exact hx_retv C0 hH hr hlocks h (Nat.le_of_ble_eq_true rfl) (Nat.le_of_ble_eq_true rfl) dJ0_init_4
def wp_J1_init (w : Hp) (a0 : Nat) (K : Hp → Prop) : Prop :=
  wp_J0_init w a0 fun w => pV w a0 7 0 (.int (0 : Int32)) fun w => K w
abbrev rm_J1_init : Room := { frames := 2, cells := 0, slots := 0, locals := 32 }
abbrev ws9_J1_init : List Cond := ws_ yJ1_init cJ1_init 1 none
abbrev Q9_J1_init (below : List Frame) (args : Array Value) (s : State) (G : hG) (K : Hp → Prop) : State → Prop := MQ below (hx_Qv G K) args s 0 0 (hx_A G)
set_option maxHeartbeats 4000000 in
set_option maxRecDepth 100000 in
theorem wk_J1_init (l : Launch) {G : hG} {w : Hp} {a0 : Nat} {K : Hp → Prop} (h : wp_J1_init w a0 K) : hx_Mv l yJ1_init (ws9_J1_init) rm_J1_init G w [.ref a0] K 0 0 := by
  refine Met.ofW (cc := cJ1_init) (maxL := 1) (ret := none) (by decide +kernel) rfl ?_
  intro p e s m args below meth c s₁ B hml hv
  refine hx_in (own := RJ1) (av := [.ref a0]) (vl := [(0, va_rf (some a0))]) rfl rfl (Nat.le_of_ble_eq_true rfl) rfl B hml hv ?_
  intro C0 hU hH hr hlocks hin ls hl
  have hx := C0.1
  have hb := C0.2.1
  have hts := C0.2.2.2.2
  refine hx_aload_n C0 dJ1_init_0 rfl (lv_at hl 0 rfl) ?_
  refine hx_Iv C0 hU hH (As := []) (wk_J0_init l h) (cwI 0 hts (lw_meth q111) rfl rfl rfl (hts _ q61) (hts _ q109) (hts _ q110) rfl (by decide +kernel) ⟨Nat.le_of_ble_eq_true rfl, Nat.le_of_ble_eq_true rfl⟩) rfl hl.1 rfl (Nat.le_of_ble_eq_true rfl) dJ1_init_1 ⟨Nat.le_of_ble_eq_true rfl, Nat.le_of_ble_eq_true rfl⟩ (fun w H locs hH h => ?_)
  refine hx_aload_n C0 dJ1_init_4 rfl (lv_at hl 0 rfl) ?_
  refine lv_iconst (v := 0) hx hb dJ1_init_5 (by decide) ?_
  refine hx_pV C0 hU hH (ci := 7) rfl in_J2 tyJ2 tyJ2_ok nmJ2 0 (by decide) q119 (fun _ h9 => h9) (Or.inl rfl) rfl rfl h dJ1_init_6 (fun w H locs hH h => ?_)
  exact hx_retv C0 hH hr hlocks h (Nat.le_of_ble_eq_true rfl) (Nat.le_of_ble_eq_true rfl) dJ1_init_9
def wp_J16_checkIndex_b9 (K : Hp → Int32 → Prop)  (w : Hp) (x0 : Int32) (x1 : Int32) (r2 : Option Nat) : Prop :=
  False
def wp_J16_checkIndex (w : Hp) (x0 : Int32) (x1 : Int32) (K : Hp → Int32 → Prop) : Prop :=
  br (x0 < 0) (wp_J16_checkIndex_b9 K w x0 x1 none) (br (x0 < x1) (K w x0) (wp_J16_checkIndex_b9 K w x0 x1 none))
abbrev rm_J16_checkIndex : Room := { frames := 0, cells := 0, slots := 0, locals := 0 }
abbrev ws9_J16_checkIndex : List Cond := ws_ yJ16_checkIndex cJ16_checkIndex 3 (Option.some Jvm.ClassFile.FieldType.int)
abbrev Q9_J16_checkIndex (below : List Frame) (args : Array Value) (s : State) (G : hG) (K : Hp → Int32 → Prop) : State → Prop := MQ below (hx_Qi G K) args s 0 0 (hx_A G)
set_option maxHeartbeats 4000000 in
set_option maxRecDepth 100000 in
theorem wk_J16_checkIndex (l : Launch) {G : hG} {w : Hp} {x0 : Int32} {x1 : Int32} {K : Hp → Int32 → Prop} (h : wp_J16_checkIndex w x0 x1 K) : hx_Mi l yJ16_checkIndex (ws9_J16_checkIndex) rm_J16_checkIndex G w [.int x0, .int x1, .null] K 0 0 := by
  refine Met.ofW (cc := cJ16_checkIndex) (maxL := 3) (ret := (Option.some Jvm.ClassFile.FieldType.int)) (by decide +kernel) rfl ?_
  intro p e s m args below meth c s₁ B hml hv
  refine hx_in (own := RJ16) (av := [.int x0, .int x1, .null]) (vl := [(0, .int x0), (1, .int x1), (2, va_rf none)]) rfl rfl (Nat.le_of_ble_eq_true rfl) rfl B hml hv ?_
  intro C0 hU hH hr hlocks hin ls hl
  have hx := C0.1
  have hb := C0.2.1
  have hts := C0.2.2.2.2
  have b9 : ∀ (w : Hp) (x0 : Int32) (x1 : Int32) (r2 : Option Nat), wp_J16_checkIndex_b9 K  w x0 x1 r2 → ∀ (H : Heap) (locs : List Loc) (ls : Array Slot), hx_H G w s H locs → lv_has ls 3 [(0, .int x0), (1, .int x1), (2, va_rf r2)] → W p l e (headSpec (ws9_J16_checkIndex) rm_J16_checkIndex).room s m args below meth c H locs (0) (0) (Q9_J16_checkIndex below args s G K) (F0 m 9 ls []) := by
    intro w x0 x1 r2 h H locs ls hH hl
    refine hx_aload_n C0 dJ16_checkIndex_9 rfl (lv_at hl 2 rfl) ?_
    refine lv_iload_n hx hb dJ16_checkIndex_10 rfl (lv_at hl 0 rfl) ?_
    refine lv_iload_n hx hb dJ16_checkIndex_11 rfl (lv_at hl 1 rfl) ?_
    exact h.elim
  refine lv_iload_n hx hb dJ16_checkIndex_0 rfl (lv_at hl 0 rfl) ?_
  refine lv_if_lt hx hb dJ16_checkIndex_1 (tgt := 9) (by decide) (fun c_1 => ?_) (fun c_1 => ?_)
  · have h := h.1 c_1
    refine W.widen (k := 0) (n := 0) (Nat.le_of_ble_eq_true rfl) (Nat.le_of_ble_eq_true rfl) ?_
    exact b9 _ _ _ _ h _ _ _ hH (lv_sub hl [0, 1, 2] rfl)
  · have h := h.2 c_1
    refine lv_iload_n hx hb dJ16_checkIndex_4 rfl (lv_at hl 0 rfl) ?_
    refine lv_iload_n hx hb dJ16_checkIndex_5 rfl (lv_at hl 1 rfl) ?_
    refine lv_icmp_lt hx hb dJ16_checkIndex_6 (tgt := 16) (by decide) (fun c_2 => ?_) (fun c_2 => ?_)
    · have h := h.1 c_2
      refine lv_iload_n hx hb dJ16_checkIndex_16 rfl (lv_at hl 0 rfl) ?_
      exact hx_reti C0 hH hr hlocks h (Nat.le_of_ble_eq_true rfl) (Nat.le_of_ble_eq_true rfl) dJ16_checkIndex_17
    · have h := h.2 c_2
      refine W.widen (k := 0) (n := 0) (Nat.le_of_ble_eq_true rfl) (Nat.le_of_ble_eq_true rfl) ?_
      exact b9 _ _ _ _ h _ _ _ hH (lv_sub hl [0, 1, 2] rfl)
def wp_J15_checkIndex (w : Hp) (x0 : Int32) (x1 : Int32) (K : Hp → Int32 → Prop) : Prop :=
  wp_J16_checkIndex w x0 x1 fun w i_1 => K w i_1
abbrev rm_J15_checkIndex : Room := { frames := 1, cells := 0, slots := 0, locals := 22 }
abbrev ws9_J15_checkIndex : List Cond := ws_ yJ15_checkIndex cJ15_checkIndex 2 (Option.some Jvm.ClassFile.FieldType.int)
abbrev Q9_J15_checkIndex (below : List Frame) (args : Array Value) (s : State) (G : hG) (K : Hp → Int32 → Prop) : State → Prop := MQ below (hx_Qi G K) args s 0 0 (hx_A G)
set_option maxHeartbeats 4000000 in
set_option maxRecDepth 100000 in
theorem wk_J15_checkIndex (l : Launch) {G : hG} {w : Hp} {x0 : Int32} {x1 : Int32} {K : Hp → Int32 → Prop} (h : wp_J15_checkIndex w x0 x1 K) : hx_Mi l yJ15_checkIndex (ws9_J15_checkIndex) rm_J15_checkIndex G w [.int x0, .int x1] K 0 0 := by
  refine Met.ofW (cc := cJ15_checkIndex) (maxL := 2) (ret := (Option.some Jvm.ClassFile.FieldType.int)) (by decide +kernel) rfl ?_
  intro p e s m args below meth c s₁ B hml hv
  refine hx_in (own := RJ15) (av := [.int x0, .int x1]) (vl := [(0, .int x0), (1, .int x1)]) rfl rfl (Nat.le_of_ble_eq_true rfl) rfl B hml hv ?_
  intro C0 hU hH hr hlocks hin ls hl
  have hx := C0.1
  have hb := C0.2.1
  have hts := C0.2.2.2.2
  refine lv_iload_n hx hb dJ15_checkIndex_0 rfl (lv_at hl 0 rfl) ?_
  refine lv_iload_n hx hb dJ15_checkIndex_1 rfl (lv_at hl 1 rfl) ?_
  refine lv_null hx hb dJ15_checkIndex_2 ?_
  refine hx_Si C0 hU hH (As := [.int x0, .int x1, va_rf none]) (wk_J16_checkIndex l h) (va_cwS 3 hts (lw_S q475 q476 q84 q477) rfl rfl rfl (by decide +kernel) ⟨Nat.le_of_ble_eq_true rfl, Nat.le_of_ble_eq_true rfl⟩) rfl hl.1 rfl (Nat.le_of_ble_eq_true rfl) dJ15_checkIndex_3 ⟨Nat.le_of_ble_eq_true rfl, Nat.le_of_ble_eq_true rfl⟩ (fun i_1 w H locs hH h => ?_)
  exact hx_reti C0 hH hr hlocks h (Nat.le_of_ble_eq_true rfl) (Nat.le_of_ble_eq_true rfl) dJ15_checkIndex_6
def wp_J17_init (w : Hp) (a0 : Nat) (a1 : Nat) (K : Hp → Prop) : Prop :=
  pV w a0 8 3 (va_rf (some a1)) fun w => pV w a0 8 1 (.int (-1 : Int32)) fun w => gR w a0 8 3 fun r_1 => dR r_1 fun b_2 => gI w b_2 7 0 fun i_3 => pV w a0 8 2 (.int i_3) fun w => K w
abbrev rm_J17_init : Room := { frames := 1, cells := 0, slots := 0, locals := 12 }
abbrev ws9_J17_init : List Cond := ws_ yJ17_init cJ17_init 2 none
abbrev Q9_J17_init (below : List Frame) (args : Array Value) (s : State) (G : hG) (K : Hp → Prop) : State → Prop := MQ below (hx_Qv G K) args s 0 0 (hx_A G)
set_option maxHeartbeats 4000000 in
set_option maxRecDepth 100000 in
theorem wk_J17_init (l : Launch) {G : hG} {w : Hp} {a0 : Nat} {a1 : Nat} {K : Hp → Prop} (h : wp_J17_init w a0 a1 K) : hx_Mv l yJ17_init (ws9_J17_init) rm_J17_init G w [.ref a0, .ref a1] K 0 0 := by
  refine Met.ofW (cc := cJ17_init) (maxL := 2) (ret := none) (by decide +kernel) rfl ?_
  intro p e s m args below meth c s₁ B hml hv
  refine hx_in (own := RJ17) (av := [.ref a0, .ref a1]) (vl := [(0, va_rf (some a0)), (1, va_rf (some a1))]) rfl rfl (Nat.le_of_ble_eq_true rfl) rfl B hml hv ?_
  intro C0 hU hH hr hlocks hin ls hl
  have hx := C0.1
  have hb := C0.2.1
  have hts := C0.2.2.2.2
  refine hx_aload_n C0 dJ17_init_0 rfl (lv_at hl 0 rfl) ?_
  refine hx_aload_n C0 dJ17_init_1 rfl (lv_at hl 1 rfl) ?_
  refine hx_pV C0 hU hH (ci := 8) rfl in_J17 tyJ17 tyJ17_ok nmJ17 3 (by decide) q339 (fun _ h9 => h9) (Or.inr ⟨rfl, hin rfl, rfl⟩) (hx_fo _ _).1 (hx_fo _ _).2 h dJ17_init_2 (fun w H locs hH h => ?_)
  refine hx_aload_n C0 dJ17_init_5 rfl (lv_at hl 0 rfl) ?_
  refine W.objInit hx hb C0.2.2.2.1 (hts _ q335) (hts _ q93) (hts _ q94) rfl (by rw [C0.2.2.1]; exact hl.1) rfl dJ17_init_6 (Nat.le_of_ble_eq_true rfl) (Nat.le_of_ble_eq_true rfl) ?_
  refine W.eq (g2 := F0 m 9 ls []) rfl ?_
  refine hx_aload_n C0 dJ17_init_9 rfl (lv_at hl 0 rfl) ?_
  refine lv_iconst (v := -1) hx hb dJ17_init_10 (by decide) ?_
  refine hx_pV C0 hU hH (ci := 8) rfl in_J17 tyJ17 tyJ17_ok nmJ17 1 (by decide) q337 (fun _ h9 => h9) (Or.inl rfl) rfl rfl h dJ17_init_11 (fun w H locs hH h => ?_)
  refine hx_aload_n C0 dJ17_init_14 rfl (lv_at hl 0 rfl) ?_
  refine hx_aload_n C0 dJ17_init_15 rfl (lv_at hl 0 rfl) ?_
  refine hx_gR C0 hU hH (ci := 8) rfl in_J17 3 (by decide) q339 (fun _ h9 => h9) h dJ17_init_16 (fun r_1 h => ?_)
  obtain ⟨b_2, rfl, h9⟩ := h
  have h := h9
  clear h9
  refine hx_gI C0 hU hH (ci := 7) rfl in_J2 0 (by decide) q120 (fun x9 h9 => u_same (hts _ q121) x9 h9) h dJ17_init_19 (fun i_3 h => ?_)
  refine hx_pV C0 hU hH (ci := 8) rfl in_J17 tyJ17 tyJ17_ok nmJ17 2 (by decide) q338 (fun _ h9 => h9) (Or.inl rfl) rfl rfl h dJ17_init_22 (fun w H locs hH h => ?_)
  exact hx_retv C0 hH hr hlocks h (Nat.le_of_ble_eq_true rfl) (Nat.le_of_ble_eq_true rfl) dJ17_init_25
def wp_J17_hasNext (w : Hp) (a0 : Nat) (K : Hp → Int32 → Prop) : Prop :=
  gI w a0 8 0 fun i_1 => gR w a0 8 3 fun r_2 => dR r_2 fun b_3 => gI w b_3 7 2 fun i_4 => br (i_1 = i_4) (K w (0 : Int32)) (K w (1 : Int32))
abbrev rm_J17_hasNext : Room := { frames := 0, cells := 0, slots := 0, locals := 0 }
abbrev ws9_J17_hasNext : List Cond := ws_ yJ17_hasNext cJ17_hasNext 1 (Option.some Jvm.ClassFile.FieldType.boolean)
abbrev Q9_J17_hasNext (below : List Frame) (args : Array Value) (s : State) (G : hG) (K : Hp → Int32 → Prop) : State → Prop := MQ below (hx_Qi G K) args s 0 0 (hx_A G)
set_option maxHeartbeats 4000000 in
set_option maxRecDepth 100000 in
theorem wk_J17_hasNext (l : Launch) {G : hG} {w : Hp} {a0 : Nat} {K : Hp → Int32 → Prop} (h : wp_J17_hasNext w a0 K) : hx_Mi l yJ17_hasNext (ws9_J17_hasNext) rm_J17_hasNext G w [.ref a0] K 0 0 := by
  refine Met.ofW (cc := cJ17_hasNext) (maxL := 1) (ret := (Option.some Jvm.ClassFile.FieldType.boolean)) (by decide +kernel) rfl ?_
  intro p e s m args below meth c s₁ B hml hv
  refine hx_in (own := RJ17) (av := [.ref a0]) (vl := [(0, va_rf (some a0))]) rfl rfl (Nat.le_of_ble_eq_true rfl) rfl B hml hv ?_
  intro C0 hU hH hr hlocks hin ls hl
  have hx := C0.1
  have hb := C0.2.1
  have hts := C0.2.2.2.2
  refine hx_aload_n C0 dJ17_hasNext_0 rfl (lv_at hl 0 rfl) ?_
  refine hx_gI C0 hU hH (ci := 8) rfl in_J17 0 (by decide) q336 (fun _ h9 => h9) h dJ17_hasNext_1 (fun i_1 h => ?_)
  refine hx_aload_n C0 dJ17_hasNext_4 rfl (lv_at hl 0 rfl) ?_
  refine hx_gR C0 hU hH (ci := 8) rfl in_J17 3 (by decide) q339 (fun _ h9 => h9) h dJ17_hasNext_5 (fun r_2 h => ?_)
  obtain ⟨b_3, rfl, h9⟩ := h
  have h := h9
  clear h9
  refine hx_gIN C0 hU hH (ci := 7) rfl in_J2 2 (by decide) q117 (fun _ h9 => h9) h dJ17_hasNext_8 (fun i_4 h => ?_)
  refine lv_icmp_eq hx hb dJ17_hasNext_11 (tgt := 18) (by decide) (fun c_5 => ?_) (fun c_5 => ?_)
  · have h := h.1 c_5
    refine lv_iconst (v := 0) hx hb dJ17_hasNext_18 (by decide) ?_
    exact hx_retz C0 hH hr hlocks (Or.inl rfl) h (Nat.le_of_ble_eq_true rfl) (Nat.le_of_ble_eq_true rfl) dJ17_hasNext_19
  · have h := h.2 c_5
    refine lv_iconst (v := 1) hx hb dJ17_hasNext_14 (by decide) ?_
    refine lv_goto hx hb dJ17_hasNext_15 (tgt := 19) (by decide) ?_
    exact hx_retz C0 hH hr hlocks (Or.inr rfl) h (Nat.le_of_ble_eq_true rfl) (Nat.le_of_ble_eq_true rfl) dJ17_hasNext_19
def wp_J17_checkForComodification (w : Hp) (a0 : Nat) (K : Hp → Prop) : Prop :=
  gR w a0 8 3 fun r_1 => dR r_1 fun b_2 => gI w b_2 7 0 fun i_3 => gI w a0 8 2 fun i_4 => br (i_3 = i_4) (K w) (False)
abbrev rm_J17_checkForComodification : Room := { frames := 0, cells := 0, slots := 0, locals := 0 }
abbrev ws9_J17_checkForComodification : List Cond := ws_ yJ17_checkForComodification cJ17_checkForComodification 1 none
abbrev Q9_J17_checkForComodification (below : List Frame) (args : Array Value) (s : State) (G : hG) (K : Hp → Prop) : State → Prop := MQ below (hx_Qv G K) args s 0 0 (hx_A G)
set_option maxHeartbeats 4000000 in
set_option maxRecDepth 100000 in
theorem wk_J17_checkForComodification (l : Launch) {G : hG} {w : Hp} {a0 : Nat} {K : Hp → Prop} (h : wp_J17_checkForComodification w a0 K) : hx_Mv l yJ17_checkForComodification (ws9_J17_checkForComodification) rm_J17_checkForComodification G w [.ref a0] K 0 0 := by
  refine Met.ofW (cc := cJ17_checkForComodification) (maxL := 1) (ret := none) (by decide +kernel) rfl ?_
  intro p e s m args below meth c s₁ B hml hv
  refine hx_in (own := RJ17) (av := [.ref a0]) (vl := [(0, va_rf (some a0))]) rfl rfl (Nat.le_of_ble_eq_true rfl) rfl B hml hv ?_
  intro C0 hU hH hr hlocks hin ls hl
  have hx := C0.1
  have hb := C0.2.1
  have hts := C0.2.2.2.2
  refine hx_aload_n C0 dJ17_checkForComodification_0 rfl (lv_at hl 0 rfl) ?_
  refine hx_gR C0 hU hH (ci := 8) rfl in_J17 3 (by decide) q339 (fun _ h9 => h9) h dJ17_checkForComodification_1 (fun r_1 h => ?_)
  obtain ⟨b_2, rfl, h9⟩ := h
  have h := h9
  clear h9
  refine hx_gI C0 hU hH (ci := 7) rfl in_J2 0 (by decide) q120 (fun x9 h9 => u_same (hts _ q121) x9 h9) h dJ17_checkForComodification_4 (fun i_3 h => ?_)
  refine hx_aload_n C0 dJ17_checkForComodification_7 rfl (lv_at hl 0 rfl) ?_
  refine hx_gI C0 hU hH (ci := 8) rfl in_J17 2 (by decide) q338 (fun _ h9 => h9) h dJ17_checkForComodification_8 (fun i_4 h => ?_)
  refine lv_icmp_eq hx hb dJ17_checkForComodification_11 (tgt := 22) (by decide) (fun c_5 => ?_) (fun c_5 => ?_)
  · have h := h.1 c_5
    exact hx_retv C0 hH hr hlocks h (Nat.le_of_ble_eq_true rfl) (Nat.le_of_ble_eq_true rfl) dJ17_checkForComodification_22
  · have h := h.2 c_5
    exact h.elim
def wp_J17_next (w : Hp) (a0 : Nat) (K : Hp → Option Nat → Prop) : Prop :=
  isO w a0 8 <| wp_J17_checkForComodification w a0 fun w => gI w a0 8 0 fun i_1 => gR w a0 8 3 fun r_2 => dR r_2 fun b_3 => gI w b_3 7 2 fun i_4 => br (i_1 < i_4) (gR w a0 8 3 fun r_6 => dR r_6 fun b_7 => gR w b_7 7 1 fun r_8 => dR r_8 fun b_9 => aN w b_9 fun i_10 => br (i_1 < i_10) (pV w a0 8 0 (.int (i_1 + (1 : Int32))) fun w => pV w a0 8 1 (.int i_1) fun w => aR w b_9 i_1 fun r_12 => K w r_12) (False)) (False)
abbrev rm_J17_next : Room := { frames := 1, cells := 0, slots := 0, locals := 20 }
abbrev ws9_J17_next : List Cond := ws_ yJ17_next cJ17_next 3 (Option.some (Jvm.ClassFile.FieldType.object "java/lang/Object"))
abbrev Q9_J17_next (below : List Frame) (args : Array Value) (s : State) (G : hG) (K : Hp → Option Nat → Prop) : State → Prop := MQ below (hx_Qq G K) args s 0 0 (hx_A G)
set_option maxHeartbeats 4000000 in
set_option maxRecDepth 100000 in
theorem wk_J17_next (l : Launch) {G : hG} {w : Hp} {a0 : Nat} {K : Hp → Option Nat → Prop} (h : wp_J17_next w a0 K) : hx_Mq l yJ17_next (ws9_J17_next) rm_J17_next G w [.ref a0] K 0 0 := by
  refine Met.ofW (cc := cJ17_next) (maxL := 3) (ret := (Option.some (Jvm.ClassFile.FieldType.object "java/lang/Object"))) (by decide +kernel) rfl ?_
  intro p e s m args below meth c s₁ B hml hv
  refine hx_in (own := RJ17) (av := [.ref a0]) (vl := [(0, va_rf (some a0))]) rfl rfl (Nat.le_of_ble_eq_true rfl) rfl B hml hv ?_
  intro C0 hU hH hr hlocks hin ls hl
  have hx := C0.1
  have hb := C0.2.1
  have hts := C0.2.2.2.2
  refine hx_aload_n C0 dJ17_next_0 rfl (lv_at hl 0 rfl) ?_
  obtain ⟨ho, h⟩ := h
  refine hx_Vv C0 hU hH (As := []) (wk_J17_checkForComodification l h) (cwV 0 hts (lw_V q368 q369 q370 q86 q371) rfl rfl rfl (by decide +kernel) ⟨Nat.le_of_ble_eq_true rfl, Nat.le_of_ble_eq_true rfl⟩) (hx_recv hU hH (ci := 8) rfl ho) rfl hl.1 rfl (Nat.le_of_ble_eq_true rfl) dJ17_next_1 ⟨Nat.le_of_ble_eq_true rfl, Nat.le_of_ble_eq_true rfl⟩ (fun w H locs hH h => ?_)
  refine hx_aload_n C0 dJ17_next_4 rfl (lv_at hl 0 rfl) ?_
  refine hx_gI C0 hU hH (ci := 8) rfl in_J17 0 (by decide) q336 (fun _ h9 => h9) h dJ17_next_5 (fun i_1 h => ?_)
  refine lv_istore_n hx hb dJ17_next_8 rfl hl (by decide) (lv' := [(1, .int i_1), (0, va_rf (some a0))]) rfl (fun ls hl => ?_)
  refine lv_iload_n hx hb dJ17_next_9 rfl (lv_at hl 0 rfl) ?_
  refine hx_aload_n C0 dJ17_next_10 rfl (lv_at hl 1 rfl) ?_
  refine hx_gR C0 hU hH (ci := 8) rfl in_J17 3 (by decide) q339 (fun _ h9 => h9) h dJ17_next_11 (fun r_2 h => ?_)
  obtain ⟨b_3, rfl, h9⟩ := h
  have h := h9
  clear h9
  refine hx_gIN C0 hU hH (ci := 7) rfl in_J2 2 (by decide) q117 (fun _ h9 => h9) h dJ17_next_14 (fun i_4 h => ?_)
  refine lv_icmp_lt hx hb dJ17_next_17 (tgt := 28) (by decide) (fun c_5 => ?_) (fun c_5 => ?_)
  · have h := h.1 c_5
    refine hx_aload_n C0 dJ17_next_28 rfl (lv_at hl 1 rfl) ?_
    refine hx_gR C0 hU hH (ci := 8) rfl in_J17 3 (by decide) q339 (fun _ h9 => h9) h dJ17_next_29 (fun r_6 h => ?_)
    obtain ⟨b_7, rfl, h9⟩ := h
    have h := h9
    clear h9
    refine hx_gR C0 hU hH (ci := 7) rfl in_J2 1 (by decide) q116 (fun _ h9 => h9) h dJ17_next_32 (fun r_8 h => ?_)
    refine hx_astore_n C0 dJ17_next_35 rfl hl (by decide) (lv' := [(2, va_rf r_8), (1, .int i_1), (0, va_rf (some a0))]) rfl (fun ls hl => ?_)
    refine lv_iload_n hx hb dJ17_next_36 rfl (lv_at hl 1 rfl) ?_
    refine hx_aload_n C0 dJ17_next_37 rfl (lv_at hl 0 rfl) ?_
    obtain ⟨b_9, rfl, h9⟩ := h
    have h := h9
    clear h9
    refine hx_aN C0 hU hH h dJ17_next_38 (fun i_10 h => ?_)
    refine lv_icmp_lt hx hb dJ17_next_39 (tgt := 50) (by decide) (fun c_11 => ?_) (fun c_11 => ?_)
    · have h := h.1 c_11
      refine hx_aload_n C0 dJ17_next_50 rfl (lv_at hl 2 rfl) ?_
      refine lv_iload_n hx hb dJ17_next_51 rfl (lv_at hl 1 rfl) ?_
      refine lv_iconst (v := 1) hx hb dJ17_next_52 (by decide) ?_
      refine lv_iadd hx hb dJ17_next_53 ?_
      refine hx_pV C0 hU hH (ci := 8) rfl in_J17 tyJ17 tyJ17_ok nmJ17 0 (by decide) q336 (fun _ h9 => h9) (Or.inl rfl) rfl rfl h dJ17_next_54 (fun w H locs hH h => ?_)
      refine hx_aload_n C0 dJ17_next_57 rfl (lv_at hl 0 rfl) ?_
      refine hx_aload_n C0 dJ17_next_58 rfl (lv_at hl 2 rfl) ?_
      refine lv_iload_n hx hb dJ17_next_59 rfl (lv_at hl 1 rfl) ?_
      refine lv_dup_x1 hx hb dJ17_next_60 rfl rfl ?_
      refine hx_pV C0 hU hH (ci := 8) rfl in_J17 tyJ17 tyJ17_ok nmJ17 1 (by decide) q337 (fun _ h9 => h9) (Or.inl rfl) rfl rfl h dJ17_next_61 (fun w H locs hH h => ?_)
      refine hx_aR C0 hU hH h dJ17_next_64 (fun r_12 h => ?_)
      exact hx_retq (v := r_12) C0 hH hr (Or.inl ⟨_, rfl⟩) hlocks h (Nat.le_of_ble_eq_true rfl) (Nat.le_of_ble_eq_true rfl) dJ17_next_65
    · have h := h.2 c_11
      exact h.elim
  · have h := h.2 c_5
    exact h.elim
def wp_J2_init (w : Hp) (a0 : Nat) (K : Hp → Prop) : Prop :=
  wp_J1_init w a0 fun w => gE w fun b_1 => pV w a0 7 1 (va_rf (some b_1)) fun w => K w
abbrev rm_J2_init : Room := { frames := 3, cells := 0, slots := 0, locals := 52 }
abbrev ws9_J2_init : List Cond := ws_ yJ2_init cJ2_init 1 none
abbrev Q9_J2_init (below : List Frame) (args : Array Value) (s : State) (G : hG) (K : Hp → Prop) : State → Prop := MQ below (hx_Qv G K) args s 0 0 (hx_A G)
set_option maxHeartbeats 4000000 in
set_option maxRecDepth 100000 in
theorem wk_J2_init (l : Launch) {G : hG} {w : Hp} {a0 : Nat} {K : Hp → Prop} (h : wp_J2_init w a0 K) : hx_Mv l yJ2_init (ws9_J2_init) rm_J2_init G w [.ref a0] K 0 0 := by
  refine Met.ofW (cc := cJ2_init) (maxL := 1) (ret := none) (by decide +kernel) rfl ?_
  intro p e s m args below meth c s₁ B hml hv
  refine hx_in (own := RJ2) (av := [.ref a0]) (vl := [(0, va_rf (some a0))]) rfl rfl (Nat.le_of_ble_eq_true rfl) rfl B hml hv ?_
  intro C0 hU hH hr hlocks hin ls hl
  have hx := C0.1
  have hb := C0.2.1
  have hts := C0.2.2.2.2
  refine hx_aload_n C0 dJ2_init_0 rfl (lv_at hl 0 rfl) ?_
  refine hx_Iv C0 hU hH (As := []) (wk_J1_init l h) (cwI 0 hts (lw_meth q108) rfl rfl rfl (hts _ q62) (hts _ q106) (hts _ q107) rfl (by decide +kernel) ⟨Nat.le_of_ble_eq_true rfl, Nat.le_of_ble_eq_true rfl⟩) rfl hl.1 rfl (Nat.le_of_ble_eq_true rfl) dJ2_init_1 ⟨Nat.le_of_ble_eq_true rfl, Nat.le_of_ble_eq_true rfl⟩ (fun w H locs hH h => ?_)
  refine hx_aload_n C0 dJ2_init_4 rfl (lv_at hl 0 rfl) ?_
  refine hx_gE C0 hU hH q113 h dJ2_init_5 (fun b_1 h => ?_)
  refine hx_pV C0 hU hH (ci := 7) rfl in_J2 tyJ2 tyJ2_ok nmJ2 1 (by decide) q115 (fun _ h9 => h9) (Or.inl rfl) (hx_fa _ _).1 (hx_fa _ _).2 h dJ2_init_8 (fun w H locs hH h => ?_)
  exact hx_retv C0 hH hr hlocks h (Nat.le_of_ble_eq_true rfl) (Nat.le_of_ble_eq_true rfl) dJ2_init_11
def wp_J3_hugeLength (w : Hp) (x0 : Int32) (x1 : Int32) (K : Hp → Int32 → Prop) : Prop :=
  nm (x0 + x1) fun i_1 => br (0 ≤ i_1) (br ((2147483639 : Int32) < i_1) (K w i_1) (K w (2147483639 : Int32))) (False)
abbrev rm_J3_hugeLength : Room := { frames := 0, cells := 0, slots := 0, locals := 0 }
abbrev ws9_J3_hugeLength : List Cond := ws_ yJ3_hugeLength cJ3_hugeLength 3 (Option.some Jvm.ClassFile.FieldType.int)
abbrev Q9_J3_hugeLength (below : List Frame) (args : Array Value) (s : State) (G : hG) (K : Hp → Int32 → Prop) : State → Prop := MQ below (hx_Qi G K) args s 0 0 (hx_A G)
set_option maxHeartbeats 4000000 in
set_option maxRecDepth 100000 in
theorem wk_J3_hugeLength (l : Launch) {G : hG} {w : Hp} {x0 : Int32} {x1 : Int32} {K : Hp → Int32 → Prop} (h : wp_J3_hugeLength w x0 x1 K) : hx_Mi l yJ3_hugeLength (ws9_J3_hugeLength) rm_J3_hugeLength G w [.int x0, .int x1] K 0 0 := by
  refine Met.ofW (cc := cJ3_hugeLength) (maxL := 3) (ret := (Option.some Jvm.ClassFile.FieldType.int)) (by decide +kernel) rfl ?_
  intro p e s m args below meth c s₁ B hml hv
  refine hx_in (own := RJ3) (av := [.int x0, .int x1]) (vl := [(0, .int x0), (1, .int x1)]) rfl rfl (Nat.le_of_ble_eq_true rfl) rfl B hml hv ?_
  intro C0 hU hH hr hlocks hin ls hl
  have hx := C0.1
  have hb := C0.2.1
  have hts := C0.2.2.2.2
  refine lv_iload_n hx hb dJ3_hugeLength_0 rfl (lv_at hl 0 rfl) ?_
  refine lv_iload_n hx hb dJ3_hugeLength_1 rfl (lv_at hl 1 rfl) ?_
  refine lv_iadd hx hb dJ3_hugeLength_2 ?_
  refine lv_topi (fun i_1 ei_1 => ?_)
  have h := h i_1 ei_1
  refine lv_istore_n hx hb dJ3_hugeLength_3 rfl hl (by decide) (lv' := [(2, .int i_1), (0, .int x0), (1, .int x1)]) rfl (fun ls hl => ?_)
  refine lv_iload_n hx hb dJ3_hugeLength_4 rfl (lv_at hl 0 rfl) ?_
  refine lv_if_ge hx hb dJ3_hugeLength_5 (tgt := 49) (by decide) (fun c_2 => ?_) (fun c_2 => ?_)
  · have h := h.1 c_2
    refine lv_iload_n hx hb dJ3_hugeLength_49 rfl (lv_at hl 0 rfl) ?_
    refine lv_ldc (v := 2147483639) hx hb C0.2.2.2.1 (hts _ q176) dJ3_hugeLength_50 ?_
    refine lv_icmp_gt hx hb dJ3_hugeLength_52 (tgt := 58) (by decide) (fun c_3 => ?_) (fun c_3 => ?_)
    · have h := h.1 c_3
      refine lv_iload_n hx hb dJ3_hugeLength_58 rfl (lv_at hl 0 rfl) ?_
      exact hx_reti C0 hH hr hlocks h (Nat.le_of_ble_eq_true rfl) (Nat.le_of_ble_eq_true rfl) dJ3_hugeLength_59
    · have h := h.2 c_3
      refine lv_ldc (v := 2147483639) hx hb C0.2.2.2.1 (hts _ q176) dJ3_hugeLength_55 ?_
      exact hx_reti C0 hH hr hlocks h (Nat.le_of_ble_eq_true rfl) (Nat.le_of_ble_eq_true rfl) dJ3_hugeLength_57
  · have h := h.2 c_2
    exact h.elim
def wp_J3_newLength_b21 (K : Hp → Int32 → Prop)  (w : Hp) (x0 : Int32) (x1 : Int32) : Prop :=
  wp_J3_hugeLength w x0 x1 fun w i_1 => K w i_1
def wp_J3_newLength (w : Hp) (x0 : Int32) (x1 : Int32) (x2 : Int32) (K : Hp → Int32 → Prop) : Prop :=
  wp_J4_max w x1 x2 fun w i_1 => nm (x0 + i_1) fun i_2 => br (i_2 ≤ (0 : Int32)) (wp_J3_newLength_b21 K w x0 x1) (br ((2147483639 : Int32) < i_2) (wp_J3_newLength_b21 K w x0 x1) (K w i_2))
abbrev rm_J3_newLength : Room := { frames := 1, cells := 0, slots := 0, locals := 22 }
abbrev ws9_J3_newLength : List Cond := ws_ yJ3_newLength cJ3_newLength 4 (Option.some Jvm.ClassFile.FieldType.int)
abbrev Q9_J3_newLength (below : List Frame) (args : Array Value) (s : State) (G : hG) (K : Hp → Int32 → Prop) : State → Prop := MQ below (hx_Qi G K) args s 0 0 (hx_A G)
set_option maxHeartbeats 4000000 in
set_option maxRecDepth 100000 in
theorem wk_J3_newLength (l : Launch) {G : hG} {w : Hp} {x0 : Int32} {x1 : Int32} {x2 : Int32} {K : Hp → Int32 → Prop} (h : wp_J3_newLength w x0 x1 x2 K) : hx_Mi l yJ3_newLength (ws9_J3_newLength) rm_J3_newLength G w [.int x0, .int x1, .int x2] K 0 0 := by
  refine Met.ofW (cc := cJ3_newLength) (maxL := 4) (ret := (Option.some Jvm.ClassFile.FieldType.int)) (by decide +kernel) rfl ?_
  intro p e s m args below meth c s₁ B hml hv
  refine hx_in (own := RJ3) (av := [.int x0, .int x1, .int x2]) (vl := [(0, .int x0), (1, .int x1), (2, .int x2)]) rfl rfl (Nat.le_of_ble_eq_true rfl) rfl B hml hv ?_
  intro C0 hU hH hr hlocks hin ls hl
  have hx := C0.1
  have hb := C0.2.1
  have hts := C0.2.2.2.2
  have b21 : ∀ (w : Hp) (x0 : Int32) (x1 : Int32), wp_J3_newLength_b21 K  w x0 x1 → ∀ (H : Heap) (locs : List Loc) (ls : Array Slot), hx_H G w s H locs → lv_has ls 4 [(0, .int x0), (1, .int x1)] → W p l e (headSpec (ws9_J3_newLength) rm_J3_newLength).room s m args below meth c H locs (0) (0) (Q9_J3_newLength below args s G K) (F0 m 21 ls []) := by
    intro w x0 x1 h H locs ls hH hl
    refine lv_iload_n hx hb dJ3_newLength_21 rfl (lv_at hl 0 rfl) ?_
    refine lv_iload_n hx hb dJ3_newLength_22 rfl (lv_at hl 1 rfl) ?_
    refine hx_Si C0 hU hH (As := [.int x0, .int x1]) (wk_J3_hugeLength l h) (va_cwS 2 hts (lw_S q177 q178 q65 q179) rfl rfl rfl (by decide +kernel) ⟨Nat.le_of_ble_eq_true rfl, Nat.le_of_ble_eq_true rfl⟩) rfl hl.1 rfl (Nat.le_of_ble_eq_true rfl) dJ3_newLength_23 ⟨Nat.le_of_ble_eq_true rfl, Nat.le_of_ble_eq_true rfl⟩ (fun i_1 w H locs hH h => ?_)
    exact hx_reti C0 hH hr hlocks h (Nat.le_of_ble_eq_true rfl) (Nat.le_of_ble_eq_true rfl) dJ3_newLength_26
  refine lv_iload_n hx hb dJ3_newLength_0 rfl (lv_at hl 0 rfl) ?_
  refine lv_iload_n hx hb dJ3_newLength_1 rfl (lv_at hl 1 rfl) ?_
  refine lv_iload_n hx hb dJ3_newLength_2 rfl (lv_at hl 2 rfl) ?_
  refine hx_Si C0 hU hH (As := [.int x1, .int x2]) (wk_J4_max l h) (va_cwS 2 hts (lw_S q173 q174 q66 q175) rfl rfl rfl (by decide +kernel) ⟨Nat.le_of_ble_eq_true rfl, Nat.le_of_ble_eq_true rfl⟩) rfl hl.1 rfl (Nat.le_of_ble_eq_true rfl) dJ3_newLength_3 ⟨Nat.le_of_ble_eq_true rfl, Nat.le_of_ble_eq_true rfl⟩ (fun i_1 w H locs hH h => ?_)
  refine lv_iadd hx hb dJ3_newLength_6 ?_
  refine lv_topi (fun i_2 ei_2 => ?_)
  have h := h i_2 ei_2
  refine lv_istore_n hx hb dJ3_newLength_7 rfl hl (by decide) (lv' := [(3, .int i_2), (0, .int x0), (1, .int x1), (2, .int x2)]) rfl (fun ls hl => ?_)
  refine lv_iconst (v := 0) hx hb dJ3_newLength_8 (by decide) ?_
  refine lv_iload_n hx hb dJ3_newLength_9 rfl (lv_at hl 0 rfl) ?_
  refine lv_icmp_ge hx hb dJ3_newLength_10 (tgt := 21) (by decide) (fun c_3 => ?_) (fun c_3 => ?_)
  · have h := h.1 c_3
    refine W.widen (k := 0) (n := 0) (Nat.le_of_ble_eq_true rfl) (Nat.le_of_ble_eq_true rfl) ?_
    exact b21 _ _ _ h _ _ _ hH (lv_sub hl [1, 2] rfl)
  · have h := h.2 c_3
    refine lv_iload_n hx hb dJ3_newLength_13 rfl (lv_at hl 0 rfl) ?_
    refine lv_ldc (v := 2147483639) hx hb C0.2.2.2.1 (hts _ q176) dJ3_newLength_14 ?_
    refine lv_icmp_gt hx hb dJ3_newLength_16 (tgt := 21) (by decide) (fun c_4 => ?_) (fun c_4 => ?_)
    · have h := h.1 c_4
      refine W.widen (k := 0) (n := 0) (Nat.le_of_ble_eq_true rfl) (Nat.le_of_ble_eq_true rfl) ?_
      exact b21 _ _ _ h _ _ _ hH (lv_sub hl [1, 2] rfl)
    · have h := h.2 c_4
      refine lv_iload_n hx hb dJ3_newLength_19 rfl (lv_at hl 0 rfl) ?_
      exact hx_reti C0 hH hr hlocks h (Nat.le_of_ble_eq_true rfl) (Nat.le_of_ble_eq_true rfl) dJ3_newLength_20
def wp_J2_grow_2_b20 (K : Hp → Option Nat → Prop)  (w : Hp) (a0 : Nat) (x1 : Int32) (x2 : Int32) : Prop :=
  wp_J3_newLength w x2 (x1 - x2) (x2 >>> ((1 : Int32) &&& 31)) fun w i_1 => gR w a0 7 1 fun r_2 => dR r_2 fun b_3 => wp_J5_copyOf w b_3 i_1 fun w r_4 => pV w a0 7 1 (va_rf r_4) fun w => K w r_4
def wp_J2_grow_2 (w : Hp) (a0 : Nat) (x1 : Int32) (K : Hp → Option Nat → Prop) : Prop :=
  gR w a0 7 1 fun r_1 => dR r_1 fun b_2 => aN w b_2 fun i_3 => br (0 < i_3) (wp_J2_grow_2_b20 K w a0 x1 i_3) (gR w a0 7 1 fun r_5 => gE w fun b_6 => br ((r_5 : Option Nat) = (some b_6)) (wp_J4_max w (10 : Int32) x1 fun w i_8 => nR_ 6 w i_8 256 fun w b_9 => pV w a0 7 1 (va_rf (some b_9)) fun w => K w (some b_9)) (wp_J2_grow_2_b20 K w a0 x1 i_3))
abbrev rm_J2_grow_2 : Room := { frames := 4, cells := 1, slots := 256, locals := 181 }
abbrev ws9_J2_grow_2 : List Cond := ws_ yJ2_grow_2 cJ2_grow_2 4 (Option.some (Jvm.ClassFile.FieldType.array (Jvm.ClassFile.FieldType.object "java/lang/Object")))
abbrev Q9_J2_grow_2 (below : List Frame) (args : Array Value) (s : State) (G : hG) (K : Hp → Option Nat → Prop) : State → Prop := MQ below (hx_Qq G K) args s 1 256 (hx_A G)
set_option maxHeartbeats 4000000 in
set_option maxRecDepth 100000 in
theorem wk_J2_grow_2 (l : Launch) {G : hG} {w : Hp} {a0 : Nat} {x1 : Int32} {K : Hp → Option Nat → Prop} (h : wp_J2_grow_2 w a0 x1 K) : hx_Mq l yJ2_grow_2 (ws9_J2_grow_2) rm_J2_grow_2 G w [.ref a0, .int x1] K 1 256 := by
  refine Met.ofW (cc := cJ2_grow_2) (maxL := 4) (ret := (Option.some (Jvm.ClassFile.FieldType.array (Jvm.ClassFile.FieldType.object "java/lang/Object")))) (by decide +kernel) rfl ?_
  intro p e s m args below meth c s₁ B hml hv
  refine hx_in (own := RJ2) (av := [.ref a0, .int x1]) (vl := [(0, va_rf (some a0)), (1, .int x1)]) rfl rfl (Nat.le_of_ble_eq_true rfl) rfl B hml hv ?_
  intro C0 hU hH hr hlocks hin ls hl
  have hx := C0.1
  have hb := C0.2.1
  have hts := C0.2.2.2.2
  have b20 : ∀ (w : Hp) (a0 : Nat) (x1 : Int32) (x2 : Int32), wp_J2_grow_2_b20 K  w a0 x1 x2 → ∀ (H : Heap) (locs : List Loc) (ls : Array Slot), hx_H G w s H locs → lv_has ls 4 [(0, va_rf (some a0)), (1, .int x1), (2, .int x2)] → W p l e (headSpec (ws9_J2_grow_2) rm_J2_grow_2).room s m args below meth c H locs (0) (0) (Q9_J2_grow_2 below args s G K) (F0 m 20 ls []) := by
    intro w a0 x1 x2 h H locs ls hH hl
    refine lv_iload_n hx hb dJ2_grow_2_20 rfl (lv_at hl 2 rfl) ?_
    refine lv_iload_n hx hb dJ2_grow_2_21 rfl (lv_at hl 1 rfl) ?_
    refine lv_iload_n hx hb dJ2_grow_2_22 rfl (lv_at hl 2 rfl) ?_
    refine lv_isub hx hb dJ2_grow_2_23 ?_
    refine lv_iload_n hx hb dJ2_grow_2_24 rfl (lv_at hl 2 rfl) ?_
    refine lv_iconst (v := 1) hx hb dJ2_grow_2_25 (by decide) ?_
    refine lv_ishr hx hb dJ2_grow_2_26 ?_
    refine hx_Si C0 hU hH (As := [.int x2, .int (x1 - x2), .int (x2 >>> ((1 : Int32) &&& 31))]) (wk_J3_newLength l h) (va_cwS 3 hts (lw_S q170 q171 q65 q172) rfl rfl rfl (by decide +kernel) ⟨Nat.le_of_ble_eq_true rfl, Nat.le_of_ble_eq_true rfl⟩) rfl hl.1 rfl (Nat.le_of_ble_eq_true rfl) dJ2_grow_2_27 ⟨Nat.le_of_ble_eq_true rfl, Nat.le_of_ble_eq_true rfl⟩ (fun i_1 w H locs hH h => ?_)
    refine lv_istore_n hx hb dJ2_grow_2_30 rfl hl (by decide) (lv' := [(3, .int i_1), (0, va_rf (some a0)), (1, .int x1), (2, .int x2)]) rfl (fun ls hl => ?_)
    refine hx_aload_n C0 dJ2_grow_2_31 rfl (lv_at hl 1 rfl) ?_
    refine hx_aload_n C0 dJ2_grow_2_32 rfl (lv_at hl 1 rfl) ?_
    refine hx_gR C0 hU hH (ci := 7) rfl in_J2 1 (by decide) q115 (fun _ h9 => h9) h dJ2_grow_2_33 (fun r_2 h => ?_)
    refine lv_iload_n hx hb dJ2_grow_2_36 rfl (lv_at hl 0 rfl) ?_
    obtain ⟨b_3, rfl, h9⟩ := h
    have h := h9
    clear h9
    refine hx_Sq C0 hU hH (As := [va_rf (some b_3), .int i_1]) (wk_J5_copyOf l h) (va_cwS 2 hts (lw_S q180 q181 q67 q182) rfl rfl rfl (by decide +kernel) ⟨Nat.le_of_ble_eq_true rfl, Nat.le_of_ble_eq_true rfl⟩) rfl hl.1 rfl (Nat.le_of_ble_eq_true rfl) dJ2_grow_2_37 ⟨Nat.le_of_ble_eq_true rfl, Nat.le_of_ble_eq_true rfl⟩ (fun r_4 w H locs hH h => ?_)
    refine lv_dup_x1 hx hb dJ2_grow_2_40 (hx_rfc _) rfl ?_
    refine hx_pV C0 hU hH (ci := 7) rfl in_J2 tyJ2 tyJ2_ok nmJ2 1 (by decide) q115 (fun _ h9 => h9) (Or.inl rfl) (hx_fa _ _).1 (hx_fa _ _).2 h dJ2_grow_2_41 (fun w H locs hH h => ?_)
    exact hx_retq (v := r_4) C0 hH hr (Or.inr ⟨_, rfl⟩) hlocks h (Nat.le_of_ble_eq_true rfl) (Nat.le_of_ble_eq_true rfl) dJ2_grow_2_44
  refine hx_aload_n C0 dJ2_grow_2_0 rfl (lv_at hl 0 rfl) ?_
  refine hx_gR C0 hU hH (ci := 7) rfl in_J2 1 (by decide) q115 (fun _ h9 => h9) h dJ2_grow_2_1 (fun r_1 h => ?_)
  obtain ⟨b_2, rfl, h9⟩ := h
  have h := h9
  clear h9
  refine hx_aN C0 hU hH h dJ2_grow_2_4 (fun i_3 h => ?_)
  refine lv_istore_n hx hb dJ2_grow_2_5 rfl hl (by decide) (lv' := [(2, .int i_3), (0, va_rf (some a0)), (1, .int x1)]) rfl (fun ls hl => ?_)
  refine lv_iload_n hx hb dJ2_grow_2_6 rfl (lv_at hl 0 rfl) ?_
  refine lv_if_gt hx hb dJ2_grow_2_7 (tgt := 20) (by decide) (fun c_4 => ?_) (fun c_4 => ?_)
  · have h := h.1 c_4
    refine W.widen (k := 0) (n := 0) (Nat.le_of_ble_eq_true rfl) (Nat.le_of_ble_eq_true rfl) ?_
    exact b20 _ _ _ _ h _ _ _ hH (lv_sub hl [1, 2, 0] rfl)
  · have h := h.2 c_4
    refine hx_aload_n C0 dJ2_grow_2_10 rfl (lv_at hl 1 rfl) ?_
    refine hx_gR C0 hU hH (ci := 7) rfl in_J2 1 (by decide) q115 (fun _ h9 => h9) h dJ2_grow_2_11 (fun r_5 h => ?_)
    refine hx_gE C0 hU hH q113 h dJ2_grow_2_14 (fun b_6 h => ?_)
    refine lv_acmp_eq (rx := r_5) (ry := some b_6) hx hb dJ2_grow_2_17 (tgt := 45) (by decide) (fun c_7 => ?_) (fun c_7 => ?_)
    · have h := h.1 c_7
      refine hx_aload_n C0 dJ2_grow_2_45 rfl (lv_at hl 1 rfl) ?_
      refine lv_bipush (v := 10) hx hb dJ2_grow_2_46 (by decide) ?_
      refine lv_iload_n hx hb dJ2_grow_2_48 rfl (lv_at hl 2 rfl) ?_
      refine hx_Si C0 hU hH (As := [.int (10 : Int32), .int x1]) (wk_J4_max l h) (va_cwS 2 hts (lw_S q213 q174 q66 q175) rfl rfl rfl (by decide +kernel) ⟨Nat.le_of_ble_eq_true rfl, Nat.le_of_ble_eq_true rfl⟩) rfl hl.1 rfl (Nat.le_of_ble_eq_true rfl) dJ2_grow_2_49 ⟨Nat.le_of_ble_eq_true rfl, Nat.le_of_ble_eq_true rfl⟩ (fun i_8 w H locs hH h => ?_)
      refine hx_nRO C0 hU hH 6 (by decide) rfl q214 hU.2.2.2.1.2.1 (Nat.le_of_ble_eq_true rfl) (Nat.le_of_ble_eq_true rfl) (Nat.le_of_ble_eq_true rfl) h dJ2_grow_2_52 (fun b_9 w H locs hH h => ?_)
      refine lv_dup_x1 hx hb dJ2_grow_2_55 rfl rfl ?_
      refine hx_pV C0 hU hH (ci := 7) rfl in_J2 tyJ2 tyJ2_ok nmJ2 1 (by decide) q115 (fun _ h9 => h9) (Or.inl rfl) (hx_fa _ _).1 (hx_fa _ _).2 h dJ2_grow_2_56 (fun w H locs hH h => ?_)
      exact hx_retq (v := some b_9) C0 hH hr (Or.inr ⟨_, rfl⟩) hlocks h (Nat.le_of_ble_eq_true rfl) (Nat.le_of_ble_eq_true rfl) dJ2_grow_2_59
    · have h := h.2 c_7
      refine W.widen (k := 0) (n := 0) (Nat.le_of_ble_eq_true rfl) (Nat.le_of_ble_eq_true rfl) ?_
      exact b20 _ _ _ _ h _ _ _ hH (lv_sub hl [1, 2, 0] rfl)
def wp_J2_grow (w : Hp) (a0 : Nat) (K : Hp → Option Nat → Prop) : Prop :=
  gI w a0 7 2 fun i_1 => isO w a0 7 <| wp_J2_grow_2 w a0 (i_1 + (1 : Int32)) fun w r_2 => K w r_2
abbrev rm_J2_grow : Room := { frames := 5, cells := 1, slots := 256, locals := 204 }
abbrev ws9_J2_grow : List Cond := ws_ yJ2_grow cJ2_grow 1 (Option.some (Jvm.ClassFile.FieldType.array (Jvm.ClassFile.FieldType.object "java/lang/Object")))
abbrev Q9_J2_grow (below : List Frame) (args : Array Value) (s : State) (G : hG) (K : Hp → Option Nat → Prop) : State → Prop := MQ below (hx_Qq G K) args s 1 256 (hx_A G)
set_option maxHeartbeats 4000000 in
set_option maxRecDepth 100000 in
theorem wk_J2_grow (l : Launch) {G : hG} {w : Hp} {a0 : Nat} {K : Hp → Option Nat → Prop} (h : wp_J2_grow w a0 K) : hx_Mq l yJ2_grow (ws9_J2_grow) rm_J2_grow G w [.ref a0] K 1 256 := by
  refine Met.ofW (cc := cJ2_grow) (maxL := 1) (ret := (Option.some (Jvm.ClassFile.FieldType.array (Jvm.ClassFile.FieldType.object "java/lang/Object")))) (by decide +kernel) rfl ?_
  intro p e s m args below meth c s₁ B hml hv
  refine hx_in (own := RJ2) (av := [.ref a0]) (vl := [(0, va_rf (some a0))]) rfl rfl (Nat.le_of_ble_eq_true rfl) rfl B hml hv ?_
  intro C0 hU hH hr hlocks hin ls hl
  have hx := C0.1
  have hb := C0.2.1
  have hts := C0.2.2.2.2
  refine hx_aload_n C0 dJ2_grow_0 rfl (lv_at hl 0 rfl) ?_
  refine hx_aload_n C0 dJ2_grow_1 rfl (lv_at hl 0 rfl) ?_
  refine hx_gI C0 hU hH (ci := 7) rfl in_J2 2 (by decide) q118 (fun _ h9 => h9) h dJ2_grow_2 (fun i_1 h => ?_)
  refine lv_iconst (v := 1) hx hb dJ2_grow_5 (by decide) ?_
  refine lv_iadd hx hb dJ2_grow_6 ?_
  obtain ⟨ho, h⟩ := h
  refine hx_Vq C0 hU hH (As := [.int (i_1 + (1 : Int32))]) (wk_J2_grow_2 l h) (cwV 1 hts (lw_V q166 q168 qs2 q63 q169) rfl rfl rfl (by decide +kernel) ⟨Nat.le_of_ble_eq_true rfl, Nat.le_of_ble_eq_true rfl⟩) (hx_recv hU hH (ci := 7) rfl ho) rfl hl.1 rfl (Nat.le_of_ble_eq_true rfl) dJ2_grow_7 ⟨Nat.le_of_ble_eq_true rfl, Nat.le_of_ble_eq_true rfl⟩ (fun r_2 w H locs hH h => ?_)
  exact hx_retq (v := r_2) C0 hH hr (Or.inr ⟨_, rfl⟩) hlocks h (Nat.le_of_ble_eq_true rfl) (Nat.le_of_ble_eq_true rfl) dJ2_grow_10
def wp_J2_add_2_b11 (K : Hp → Prop)  (w : Hp) (a0 : Nat) (a1 : Nat) (r2 : Option Nat) (x3 : Int32) : Prop :=
  dR r2 fun b_1 => sR w b_1 x3 (some a1) fun w => pV w a0 7 2 (.int (x3 + (1 : Int32))) fun w => K w
def wp_J2_add_2 (w : Hp) (a0 : Nat) (a1 : Nat) (a2 : Nat) (x3 : Int32) (K : Hp → Prop) : Prop :=
  aN w a2 fun i_1 => br (x3 = i_1) (isO w a0 7 <| wp_J2_grow w a0 fun w r_3 => wp_J2_add_2_b11 K w a0 a1 r_3 x3) (wp_J2_add_2_b11 K w a0 a1 (some a2) x3)
abbrev rm_J2_add_2 : Room := { frames := 6, cells := 1, slots := 256, locals := 224 }
abbrev ws9_J2_add_2 : List Cond := ws_ yJ2_add_2 cJ2_add_2 4 none
abbrev Q9_J2_add_2 (below : List Frame) (args : Array Value) (s : State) (G : hG) (K : Hp → Prop) : State → Prop := MQ below (hx_Qv G K) args s 1 256 (hx_A G)
set_option maxHeartbeats 4000000 in
set_option maxRecDepth 100000 in
theorem wk_J2_add_2 (l : Launch) {G : hG} {w : Hp} {a0 : Nat} {a1 : Nat} {a2 : Nat} {x3 : Int32} {K : Hp → Prop} (h : wp_J2_add_2 w a0 a1 a2 x3 K) : hx_Mv l yJ2_add_2 (ws9_J2_add_2) rm_J2_add_2 G w [.ref a0, .ref a1, .ref a2, .int x3] K 1 256 := by
  refine Met.ofW (cc := cJ2_add_2) (maxL := 4) (ret := none) (by decide +kernel) rfl ?_
  intro p e s m args below meth c s₁ B hml hv
  refine hx_in (own := RJ2) (av := [.ref a0, .ref a1, .ref a2, .int x3]) (vl := [(0, va_rf (some a0)), (1, va_rf (some a1)), (2, va_rf (some a2)), (3, .int x3)]) rfl rfl (Nat.le_of_ble_eq_true rfl) rfl B hml hv ?_
  intro C0 hU hH hr hlocks hin ls hl
  have hx := C0.1
  have hb := C0.2.1
  have hts := C0.2.2.2.2
  have b11 : ∀ (w : Hp) (a0 : Nat) (a1 : Nat) (r2 : Option Nat) (x3 : Int32), wp_J2_add_2_b11 K  w a0 a1 r2 x3 → ∀ (H : Heap) (locs : List Loc) (ls : Array Slot), hx_H G w s H locs → lv_has ls 4 [(0, va_rf (some a0)), (1, va_rf (some a1)), (2, va_rf r2), (3, .int x3)] → W p l e (headSpec (ws9_J2_add_2) rm_J2_add_2).room s m args below meth c H locs (1) (256) (Q9_J2_add_2 below args s G K) (F0 m 11 ls []) := by
    intro w a0 a1 r2 x3 h H locs ls hH hl
    refine hx_aload_n C0 dJ2_add_2_11 rfl (lv_at hl 2 rfl) ?_
    refine lv_iload_n hx hb dJ2_add_2_12 rfl (lv_at hl 3 rfl) ?_
    refine hx_aload_n C0 dJ2_add_2_13 rfl (lv_at hl 1 rfl) ?_
    obtain ⟨b_1, rfl, h9⟩ := h
    have h := h9
    clear h9
    refine hx_sR C0 hU hH h dJ2_add_2_14 (fun w H locs hH h => ?_)
    refine hx_aload_n C0 dJ2_add_2_15 rfl (lv_at hl 0 rfl) ?_
    refine lv_iload_n hx hb dJ2_add_2_16 rfl (lv_at hl 3 rfl) ?_
    refine lv_iconst (v := 1) hx hb dJ2_add_2_17 (by decide) ?_
    refine lv_iadd hx hb dJ2_add_2_18 ?_
    refine hx_pV C0 hU hH (ci := 7) rfl in_J2 tyJ2 tyJ2_ok nmJ2 2 (by decide) q118 (fun _ h9 => h9) (Or.inl rfl) rfl rfl h dJ2_add_2_19 (fun w H locs hH h => ?_)
    exact hx_retv C0 hH hr hlocks h (Nat.le_of_ble_eq_true rfl) (Nat.le_of_ble_eq_true rfl) dJ2_add_2_22
  refine lv_iload_n hx hb dJ2_add_2_0 rfl (lv_at hl 3 rfl) ?_
  refine hx_aload_n C0 dJ2_add_2_1 rfl (lv_at hl 2 rfl) ?_
  refine hx_aN C0 hU hH h dJ2_add_2_2 (fun i_1 h => ?_)
  refine lv_icmp_ne hx hb dJ2_add_2_3 (tgt := 11) (by decide) (fun c_2 => ?_) (fun c_2 => ?_)
  · have h := h.2 c_2
    refine W.widen (k := 1) (n := 256) (Nat.le_of_ble_eq_true rfl) (Nat.le_of_ble_eq_true rfl) ?_
    exact b11 _ _ _ _ _ h _ _ _ hH (lv_sub hl [0, 1, 2, 3] rfl)
  · have h := h.1 c_2
    refine hx_aload_n C0 dJ2_add_2_6 rfl (lv_at hl 0 rfl) ?_
    obtain ⟨ho, h⟩ := h
    refine hx_Vq C0 hU hH (As := []) (wk_J2_grow l h) (cwV 0 hts (lw_V q162 q164 qs1 q63 q165) rfl rfl rfl (by decide +kernel) ⟨Nat.le_of_ble_eq_true rfl, Nat.le_of_ble_eq_true rfl⟩) (hx_recv hU hH (ci := 7) rfl ho) rfl hl.1 rfl (Nat.le_of_ble_eq_true rfl) dJ2_add_2_7 ⟨Nat.le_of_ble_eq_true rfl, Nat.le_of_ble_eq_true rfl⟩ (fun r_3 w H locs hH h => ?_)
    refine hx_astore_n C0 dJ2_add_2_10 rfl hl (by decide) (lv' := [(2, va_rf r_3), (0, va_rf (some a0)), (1, va_rf (some a1)), (3, .int x3)]) rfl (fun ls hl => ?_)
    refine W.widen (k := 1) (n := 256) (Nat.le_of_ble_eq_true rfl) (Nat.le_of_ble_eq_true rfl) ?_
    exact b11 _ _ _ _ _ h _ _ _ hH (lv_sub hl [1, 2, 0, 3] rfl)
def wp_J2_add (w : Hp) (a0 : Nat) (a1 : Nat) (K : Hp → Int32 → Prop) : Prop :=
  gI w a0 7 0 fun i_1 => pV w a0 7 0 (.int (i_1 + (1 : Int32))) fun w => gR w a0 7 1 fun r_2 => gI w a0 7 2 fun i_3 => dR r_2 fun b_4 => isO w a0 7 <| wp_J2_add_2 w a0 a1 b_4 i_3 fun w => K w (1 : Int32)
abbrev rm_J2_add : Room := { frames := 7, cells := 1, slots := 256, locals := 247 }
abbrev ws9_J2_add : List Cond := ws_ yJ2_add cJ2_add 2 (Option.some Jvm.ClassFile.FieldType.boolean)
abbrev Q9_J2_add (below : List Frame) (args : Array Value) (s : State) (G : hG) (K : Hp → Int32 → Prop) : State → Prop := MQ below (hx_Qi G K) args s 1 256 (hx_A G)
set_option maxHeartbeats 4000000 in
set_option maxRecDepth 100000 in
theorem wk_J2_add (l : Launch) {G : hG} {w : Hp} {a0 : Nat} {a1 : Nat} {K : Hp → Int32 → Prop} (h : wp_J2_add w a0 a1 K) : hx_Mi l yJ2_add (ws9_J2_add) rm_J2_add G w [.ref a0, .ref a1] K 1 256 := by
  refine Met.ofW (cc := cJ2_add) (maxL := 2) (ret := (Option.some Jvm.ClassFile.FieldType.boolean)) (by decide +kernel) rfl ?_
  intro p e s m args below meth c s₁ B hml hv
  refine hx_in (own := RJ2) (av := [.ref a0, .ref a1]) (vl := [(0, va_rf (some a0)), (1, va_rf (some a1))]) rfl rfl (Nat.le_of_ble_eq_true rfl) rfl B hml hv ?_
  intro C0 hU hH hr hlocks hin ls hl
  have hx := C0.1
  have hb := C0.2.1
  have hts := C0.2.2.2.2
  refine hx_aload_n C0 dJ2_add_0 rfl (lv_at hl 0 rfl) ?_
  refine lv_dup hx hb dJ2_add_1 rfl ?_
  refine hx_gI C0 hU hH (ci := 7) rfl in_J2 0 (by decide) q122 (fun x9 h9 => u_same (hts _ q121) x9 h9) h dJ2_add_2 (fun i_1 h => ?_)
  refine lv_iconst (v := 1) hx hb dJ2_add_5 (by decide) ?_
  refine lv_iadd hx hb dJ2_add_6 ?_
  refine hx_pV C0 hU hH (ci := 7) rfl in_J2 tyJ2 tyJ2_ok nmJ2 0 (by decide) q122 (fun x9 h9 => u_same (hts _ q121) x9 h9) (Or.inl rfl) rfl rfl h dJ2_add_7 (fun w H locs hH h => ?_)
  refine hx_aload_n C0 dJ2_add_10 rfl (lv_at hl 0 rfl) ?_
  refine hx_aload_n C0 dJ2_add_11 rfl (lv_at hl 1 rfl) ?_
  refine hx_aload_n C0 dJ2_add_12 rfl (lv_at hl 0 rfl) ?_
  refine hx_gR C0 hU hH (ci := 7) rfl in_J2 1 (by decide) q115 (fun _ h9 => h9) h dJ2_add_13 (fun r_2 h => ?_)
  refine hx_aload_n C0 dJ2_add_16 rfl (lv_at hl 0 rfl) ?_
  refine hx_gI C0 hU hH (ci := 7) rfl in_J2 2 (by decide) q118 (fun _ h9 => h9) h dJ2_add_17 (fun i_3 h => ?_)
  obtain ⟨b_4, rfl, h9⟩ := h
  have h := h9
  clear h9
  obtain ⟨ho, h⟩ := h
  refine hx_Vv C0 hU hH (As := [va_rf (some a1), va_rf (some b_4), .int i_3]) (wk_J2_add_2 l h) (cwV 3 hts (lw_V q158 q160 qs0 q63 q161) rfl rfl rfl (by decide +kernel) ⟨Nat.le_of_ble_eq_true rfl, Nat.le_of_ble_eq_true rfl⟩) (hx_recv hU hH (ci := 7) rfl ho) rfl hl.1 rfl (Nat.le_of_ble_eq_true rfl) dJ2_add_20 ⟨Nat.le_of_ble_eq_true rfl, Nat.le_of_ble_eq_true rfl⟩ (fun w H locs hH h => ?_)
  refine lv_iconst (v := 1) hx hb dJ2_add_23 (by decide) ?_
  exact hx_retz C0 hH hr hlocks (Or.inr rfl) h (Nat.le_of_ble_eq_true rfl) (Nat.le_of_ble_eq_true rfl) dJ2_add_24
def wp_J2_size (w : Hp) (a0 : Nat) (K : Hp → Int32 → Prop) : Prop :=
  gI w a0 7 2 fun i_1 => K w i_1
abbrev rm_J2_size : Room := { frames := 0, cells := 0, slots := 0, locals := 0 }
abbrev ws9_J2_size : List Cond := ws_ yJ2_size cJ2_size 1 (Option.some Jvm.ClassFile.FieldType.int)
abbrev Q9_J2_size (below : List Frame) (args : Array Value) (s : State) (G : hG) (K : Hp → Int32 → Prop) : State → Prop := MQ below (hx_Qi G K) args s 0 0 (hx_A G)
set_option maxHeartbeats 4000000 in
set_option maxRecDepth 100000 in
theorem wk_J2_size (l : Launch) {G : hG} {w : Hp} {a0 : Nat} {K : Hp → Int32 → Prop} (h : wp_J2_size w a0 K) : hx_Mi l yJ2_size (ws9_J2_size) rm_J2_size G w [.ref a0] K 0 0 := by
  refine Met.ofW (cc := cJ2_size) (maxL := 1) (ret := (Option.some Jvm.ClassFile.FieldType.int)) (by decide +kernel) rfl ?_
  intro p e s m args below meth c s₁ B hml hv
  refine hx_in (own := RJ2) (av := [.ref a0]) (vl := [(0, va_rf (some a0))]) rfl rfl (Nat.le_of_ble_eq_true rfl) rfl B hml hv ?_
  intro C0 hU hH hr hlocks hin ls hl
  have hx := C0.1
  have hb := C0.2.1
  have hts := C0.2.2.2.2
  refine hx_aload_n C0 dJ2_size_0 rfl (lv_at hl 0 rfl) ?_
  refine hx_gI C0 hU hH (ci := 7) rfl in_J2 2 (by decide) q118 (fun _ h9 => h9) h dJ2_size_1 (fun i_1 h => ?_)
  exact hx_reti C0 hH hr hlocks h (Nat.le_of_ble_eq_true rfl) (Nat.le_of_ble_eq_true rfl) dJ2_size_4
def wp_J2_iterator (w : Hp) (a0 : Nat) (K : Hp → Option Nat → Prop) : Prop :=
  nO w 8 fsJ17 fun w b_1 => wp_J17_init w b_1 a0 fun w => K w (some b_1)
abbrev rm_J2_iterator : Room := { frames := 2, cells := 1, slots := 4, locals := 33 }
abbrev ws9_J2_iterator : List Cond := ws_ yJ2_iterator cJ2_iterator 1 (Option.some (Jvm.ClassFile.FieldType.object "java/util/Iterator"))
abbrev Q9_J2_iterator (below : List Frame) (args : Array Value) (s : State) (G : hG) (K : Hp → Option Nat → Prop) : State → Prop := MQ below (hx_Qq G K) args s 1 4 (hx_A G)
set_option maxHeartbeats 4000000 in
set_option maxRecDepth 100000 in
theorem wk_J2_iterator (l : Launch) {G : hG} {w : Hp} {a0 : Nat} {K : Hp → Option Nat → Prop} (h : wp_J2_iterator w a0 K) : hx_Mq l yJ2_iterator (ws9_J2_iterator) rm_J2_iterator G w [.ref a0] K 1 4 := by
  refine Met.ofW (cc := cJ2_iterator) (maxL := 1) (ret := (Option.some (Jvm.ClassFile.FieldType.object "java/util/Iterator"))) (by decide +kernel) rfl ?_
  intro p e s m args below meth c s₁ B hml hv
  refine hx_in (own := RJ2) (av := [.ref a0]) (vl := [(0, va_rf (some a0))]) rfl rfl (Nat.le_of_ble_eq_true rfl) rfl B hml hv ?_
  intro C0 hU hH hr hlocks hin ls hl
  have hx := C0.1
  have hb := C0.2.1
  have hts := C0.2.2.2.2
  refine hx_new C0 hU hH (ci := 8) rfl in_J17 tyJ17 tyJ17_ok q330 q331 q86 nfJ17 (Nat.le_of_ble_eq_true rfl) (Nat.le_of_ble_eq_true rfl) h dJ2_iterator_0 (fun b_1 w H locs hH h => ?_)
  refine lv_dup hx hb dJ2_iterator_3 rfl ?_
  refine hx_aload_n C0 dJ2_iterator_4 rfl (lv_at hl 0 rfl) ?_
  refine hx_Iv C0 hU hH (As := [va_rf (some a0)]) (wk_J17_init l h) (cwI 1 hts (lw_meth q334) rfl rfl rfl (hts _ q86) (hts _ q332) (hts _ q333) rfl (by decide +kernel) ⟨Nat.le_of_ble_eq_true rfl, Nat.le_of_ble_eq_true rfl⟩) rfl hl.1 rfl (Nat.le_of_ble_eq_true rfl) dJ2_iterator_5 ⟨Nat.le_of_ble_eq_true rfl, Nat.le_of_ble_eq_true rfl⟩ (fun w H locs hH h => ?_)
  exact hx_retq (v := some b_1) C0 hH hr (Or.inl ⟨_, rfl⟩) hlocks h (Nat.le_of_ble_eq_true rfl) (Nat.le_of_ble_eq_true rfl) dJ2_iterator_8
def wp_J2_elementData (w : Hp) (a0 : Nat) (x1 : Int32) (K : Hp → Option Nat → Prop) : Prop :=
  gR w a0 7 1 fun r_1 => dR r_1 fun b_2 => aR w b_2 x1 fun r_3 => K w r_3
abbrev rm_J2_elementData : Room := { frames := 0, cells := 0, slots := 0, locals := 0 }
abbrev ws9_J2_elementData : List Cond := ws_ yJ2_elementData cJ2_elementData 2 (Option.some (Jvm.ClassFile.FieldType.object "java/lang/Object"))
abbrev Q9_J2_elementData (below : List Frame) (args : Array Value) (s : State) (G : hG) (K : Hp → Option Nat → Prop) : State → Prop := MQ below (hx_Qq G K) args s 0 0 (hx_A G)
set_option maxHeartbeats 4000000 in
set_option maxRecDepth 100000 in
theorem wk_J2_elementData (l : Launch) {G : hG} {w : Hp} {a0 : Nat} {x1 : Int32} {K : Hp → Option Nat → Prop} (h : wp_J2_elementData w a0 x1 K) : hx_Mq l yJ2_elementData (ws9_J2_elementData) rm_J2_elementData G w [.ref a0, .int x1] K 0 0 := by
  refine Met.ofW (cc := cJ2_elementData) (maxL := 2) (ret := (Option.some (Jvm.ClassFile.FieldType.object "java/lang/Object"))) (by decide +kernel) rfl ?_
  intro p e s m args below meth c s₁ B hml hv
  refine hx_in (own := RJ2) (av := [.ref a0, .int x1]) (vl := [(0, va_rf (some a0)), (1, .int x1)]) rfl rfl (Nat.le_of_ble_eq_true rfl) rfl B hml hv ?_
  intro C0 hU hH hr hlocks hin ls hl
  have hx := C0.1
  have hb := C0.2.1
  have hts := C0.2.2.2.2
  refine hx_aload_n C0 dJ2_elementData_0 rfl (lv_at hl 0 rfl) ?_
  refine hx_gR C0 hU hH (ci := 7) rfl in_J2 1 (by decide) q115 (fun _ h9 => h9) h dJ2_elementData_1 (fun r_1 h => ?_)
  refine lv_iload_n hx hb dJ2_elementData_4 rfl (lv_at hl 1 rfl) ?_
  obtain ⟨b_2, rfl, h9⟩ := h
  have h := h9
  clear h9
  refine hx_aR C0 hU hH h dJ2_elementData_5 (fun r_3 h => ?_)
  exact hx_retq (v := r_3) C0 hH hr (Or.inl ⟨_, rfl⟩) hlocks h (Nat.le_of_ble_eq_true rfl) (Nat.le_of_ble_eq_true rfl) dJ2_elementData_6
def wp_J2_get (w : Hp) (a0 : Nat) (x1 : Int32) (K : Hp → Option Nat → Prop) : Prop :=
  gI w a0 7 2 fun i_1 => wp_J15_checkIndex w x1 i_1 fun w i_2 => isO w a0 7 <| wp_J2_elementData w a0 x1 fun w r_3 => K w r_3
abbrev rm_J2_get : Room := { frames := 2, cells := 0, slots := 0, locals := 43 }
abbrev ws9_J2_get : List Cond := ws_ yJ2_get cJ2_get 2 (Option.some (Jvm.ClassFile.FieldType.object "java/lang/Object"))
abbrev Q9_J2_get (below : List Frame) (args : Array Value) (s : State) (G : hG) (K : Hp → Option Nat → Prop) : State → Prop := MQ below (hx_Qq G K) args s 0 0 (hx_A G)
set_option maxHeartbeats 4000000 in
set_option maxRecDepth 100000 in
theorem wk_J2_get (l : Launch) {G : hG} {w : Hp} {a0 : Nat} {x1 : Int32} {K : Hp → Option Nat → Prop} (h : wp_J2_get w a0 x1 K) : hx_Mq l yJ2_get (ws9_J2_get) rm_J2_get G w [.ref a0, .int x1] K 0 0 := by
  refine Met.ofW (cc := cJ2_get) (maxL := 2) (ret := (Option.some (Jvm.ClassFile.FieldType.object "java/lang/Object"))) (by decide +kernel) rfl ?_
  intro p e s m args below meth c s₁ B hml hv
  refine hx_in (own := RJ2) (av := [.ref a0, .int x1]) (vl := [(0, va_rf (some a0)), (1, .int x1)]) rfl rfl (Nat.le_of_ble_eq_true rfl) rfl B hml hv ?_
  intro C0 hU hH hr hlocks hin ls hl
  have hx := C0.1
  have hb := C0.2.1
  have hts := C0.2.2.2.2
  refine lv_iload_n hx hb dJ2_get_0 rfl (lv_at hl 1 rfl) ?_
  refine hx_aload_n C0 dJ2_get_1 rfl (lv_at hl 0 rfl) ?_
  refine hx_gI C0 hU hH (ci := 7) rfl in_J2 2 (by decide) q118 (fun _ h9 => h9) h dJ2_get_2 (fun i_1 h => ?_)
  refine hx_Si C0 hU hH (As := [.int x1, .int i_1]) (wk_J15_checkIndex l h) (va_cwS 2 hts (lw_S q472 q473 q83 q474) rfl rfl rfl (by decide +kernel) ⟨Nat.le_of_ble_eq_true rfl, Nat.le_of_ble_eq_true rfl⟩) rfl hl.1 rfl (Nat.le_of_ble_eq_true rfl) dJ2_get_5 ⟨Nat.le_of_ble_eq_true rfl, Nat.le_of_ble_eq_true rfl⟩ (fun i_2 w H locs hH h => ?_)
  refine lv_pop hx hb dJ2_get_8 rfl ?_
  refine hx_aload_n C0 dJ2_get_9 rfl (lv_at hl 0 rfl) ?_
  refine lv_iload_n hx hb dJ2_get_10 rfl (lv_at hl 1 rfl) ?_
  obtain ⟨ho, h⟩ := h
  refine hx_Vq C0 hU hH (As := [.int x1]) (wk_J2_elementData l h) (cwV 1 hts (lw_V q478 q479 q480 q63 q481) rfl rfl rfl (by decide +kernel) ⟨Nat.le_of_ble_eq_true rfl, Nat.le_of_ble_eq_true rfl⟩) (hx_recv hU hH (ci := 7) rfl ho) rfl hl.1 rfl (Nat.le_of_ble_eq_true rfl) dJ2_get_11 ⟨Nat.le_of_ble_eq_true rfl, Nat.le_of_ble_eq_true rfl⟩ (fun r_3 w H locs hH h => ?_)
  exact hx_retq (v := r_3) C0 hH hr (Or.inl ⟨_, rfl⟩) hlocks h (Nat.le_of_ble_eq_true rfl) (Nat.le_of_ble_eq_true rfl) dJ2_get_14
def wp_J2_fastRemove_b34 (K : Hp → Prop)  (w : Hp) (a0 : Nat) (a1 : Nat) (x3 : Int32) : Prop :=
  pV w a0 7 2 (.int x3) fun w => sR w a1 x3 none fun w => K w
def wp_J2_fastRemove (w : Hp) (a0 : Nat) (a1 : Nat) (x2 : Int32) (K : Hp → Prop) : Prop :=
  gI w a0 7 0 fun i_1 => pV w a0 7 0 (.int (i_1 + (1 : Int32))) fun w => gI w a0 7 2 fun i_2 => nm (i_2 - (1 : Int32)) fun i_3 => br ((i_2 - (1 : Int32)) ≤ x2) (wp_J2_fastRemove_b34 K w a0 a1 i_3) (cR w a1 (x2 + (1 : Int32)) a1 x2 (i_3 - x2) fun w => wp_J2_fastRemove_b34 K w a0 a1 i_3)
abbrev rm_J2_fastRemove : Room := { frames := 1, cells := 0, slots := 0, locals := 60 }
abbrev ws9_J2_fastRemove : List Cond := ws_ yJ2_fastRemove cJ2_fastRemove 4 none
abbrev Q9_J2_fastRemove (below : List Frame) (args : Array Value) (s : State) (G : hG) (K : Hp → Prop) : State → Prop := MQ below (hx_Qv G K) args s 0 0 (hx_A G)
set_option maxHeartbeats 4000000 in
set_option maxRecDepth 100000 in
theorem wk_J2_fastRemove (l : Launch) {G : hG} {w : Hp} {a0 : Nat} {a1 : Nat} {x2 : Int32} {K : Hp → Prop} (h : wp_J2_fastRemove w a0 a1 x2 K) : hx_Mv l yJ2_fastRemove (ws9_J2_fastRemove) rm_J2_fastRemove G w [.ref a0, .ref a1, .int x2] K 0 0 := by
  refine Met.ofW (cc := cJ2_fastRemove) (maxL := 4) (ret := none) (by decide +kernel) rfl ?_
  intro p e s m args below meth c s₁ B hml hv
  refine hx_in (own := RJ2) (av := [.ref a0, .ref a1, .int x2]) (vl := [(0, va_rf (some a0)), (1, va_rf (some a1)), (2, .int x2)]) rfl rfl (Nat.le_of_ble_eq_true rfl) rfl B hml hv ?_
  intro C0 hU hH hr hlocks hin ls hl
  have hx := C0.1
  have hb := C0.2.1
  have hts := C0.2.2.2.2
  have b34 : ∀ (w : Hp) (a0 : Nat) (a1 : Nat) (x3 : Int32), wp_J2_fastRemove_b34 K  w a0 a1 x3 → ∀ (H : Heap) (locs : List Loc) (ls : Array Slot), hx_H G w s H locs → lv_has ls 4 [(0, va_rf (some a0)), (1, va_rf (some a1)), (3, .int x3)] → W p l e (headSpec (ws9_J2_fastRemove) rm_J2_fastRemove).room s m args below meth c H locs (0) (0) (Q9_J2_fastRemove below args s G K) (F0 m 34 ls []) := by
    intro w a0 a1 x3 h H locs ls hH hl
    refine hx_aload_n C0 dJ2_fastRemove_34 rfl (lv_at hl 1 rfl) ?_
    refine hx_aload_n C0 dJ2_fastRemove_35 rfl (lv_at hl 0 rfl) ?_
    refine lv_iload_n hx hb dJ2_fastRemove_36 rfl (lv_at hl 2 rfl) ?_
    refine lv_dup_x1 hx hb dJ2_fastRemove_37 rfl rfl ?_
    refine hx_pV C0 hU hH (ci := 7) rfl in_J2 tyJ2 tyJ2_ok nmJ2 2 (by decide) q118 (fun _ h9 => h9) (Or.inl rfl) rfl rfl h dJ2_fastRemove_38 (fun w H locs hH h => ?_)
    refine lv_null hx hb dJ2_fastRemove_41 ?_
    refine hx_sR C0 hU hH h dJ2_fastRemove_42 (fun w H locs hH h => ?_)
    exact hx_retv C0 hH hr hlocks h (Nat.le_of_ble_eq_true rfl) (Nat.le_of_ble_eq_true rfl) dJ2_fastRemove_43
  refine hx_aload_n C0 dJ2_fastRemove_0 rfl (lv_at hl 0 rfl) ?_
  refine lv_dup hx hb dJ2_fastRemove_1 rfl ?_
  refine hx_gI C0 hU hH (ci := 7) rfl in_J2 0 (by decide) q122 (fun x9 h9 => u_same (hts _ q121) x9 h9) h dJ2_fastRemove_2 (fun i_1 h => ?_)
  refine lv_iconst (v := 1) hx hb dJ2_fastRemove_5 (by decide) ?_
  refine lv_iadd hx hb dJ2_fastRemove_6 ?_
  refine hx_pV C0 hU hH (ci := 7) rfl in_J2 tyJ2 tyJ2_ok nmJ2 0 (by decide) q122 (fun x9 h9 => u_same (hts _ q121) x9 h9) (Or.inl rfl) rfl rfl h dJ2_fastRemove_7 (fun w H locs hH h => ?_)
  refine hx_aload_n C0 dJ2_fastRemove_10 rfl (lv_at hl 0 rfl) ?_
  refine hx_gI C0 hU hH (ci := 7) rfl in_J2 2 (by decide) q118 (fun _ h9 => h9) h dJ2_fastRemove_11 (fun i_2 h => ?_)
  refine lv_iconst (v := 1) hx hb dJ2_fastRemove_14 (by decide) ?_
  refine lv_isub hx hb dJ2_fastRemove_15 ?_
  refine lv_dup hx hb dJ2_fastRemove_16 rfl ?_
  refine lv_topi (fun i_3 ei_3 => ?_)
  have h := h i_3 ei_3
  refine lv_istore_n hx hb dJ2_fastRemove_17 rfl hl (by decide) (lv' := [(3, .int i_3), (0, va_rf (some a0)), (1, va_rf (some a1)), (2, .int x2)]) rfl (fun ls hl => ?_)
  refine lv_iload_n hx hb dJ2_fastRemove_18 rfl (lv_at hl 3 rfl) ?_
  refine lv_icmp_le hx hb dJ2_fastRemove_19 (tgt := 34) (by decide) (fun c_4 => ?_) (fun c_4 => ?_)
  · have h := h.1 c_4
    refine W.widen (k := 0) (n := 0) (Nat.le_of_ble_eq_true rfl) (Nat.le_of_ble_eq_true rfl) ?_
    exact b34 _ _ _ _ h _ _ _ hH (lv_sub hl [1, 2, 0] rfl)
  · have h := h.2 c_4
    refine hx_aload_n C0 dJ2_fastRemove_22 rfl (lv_at hl 2 rfl) ?_
    refine lv_iload_n hx hb dJ2_fastRemove_23 rfl (lv_at hl 3 rfl) ?_
    refine lv_iconst (v := 1) hx hb dJ2_fastRemove_24 (by decide) ?_
    refine lv_iadd hx hb dJ2_fastRemove_25 ?_
    refine hx_aload_n C0 dJ2_fastRemove_26 rfl (lv_at hl 2 rfl) ?_
    refine lv_iload_n hx hb dJ2_fastRemove_27 rfl (lv_at hl 3 rfl) ?_
    refine lv_iload_n hx hb dJ2_fastRemove_28 rfl (lv_at hl 0 rfl) ?_
    refine lv_iload_n hx hb dJ2_fastRemove_29 rfl (lv_at hl 3 rfl) ?_
    refine lv_isub hx hb dJ2_fastRemove_30 ?_
    refine hx_cR C0 hU hH hl.1.symm q785 h (Nat.le_of_ble_eq_true rfl) (by decide) dJ2_fastRemove_31 (fun w H locs hH h => ?_)
    refine W.widen (k := 0) (n := 0) (Nat.le_of_ble_eq_true rfl) (Nat.le_of_ble_eq_true rfl) ?_
    exact b34 _ _ _ _ h _ _ _ hH (lv_sub hl [1, 2, 0] rfl)
def wp_J2_remove (w : Hp) (a0 : Nat) (x1 : Int32) (K : Hp → Option Nat → Prop) : Prop :=
  gI w a0 7 2 fun i_1 => wp_J15_checkIndex w x1 i_1 fun w i_2 => gR w a0 7 1 fun r_3 => dR r_3 fun b_4 => aR w b_4 x1 fun r_5 => isO w a0 7 <| wp_J2_fastRemove w a0 b_4 x1 fun w => K w r_5
abbrev rm_J2_remove : Room := { frames := 2, cells := 0, slots := 0, locals := 83 }
abbrev ws9_J2_remove : List Cond := ws_ yJ2_remove cJ2_remove 4 (Option.some (Jvm.ClassFile.FieldType.object "java/lang/Object"))
abbrev Q9_J2_remove (below : List Frame) (args : Array Value) (s : State) (G : hG) (K : Hp → Option Nat → Prop) : State → Prop := MQ below (hx_Qq G K) args s 0 0 (hx_A G)
set_option maxHeartbeats 4000000 in
set_option maxRecDepth 100000 in
theorem wk_J2_remove (l : Launch) {G : hG} {w : Hp} {a0 : Nat} {x1 : Int32} {K : Hp → Option Nat → Prop} (h : wp_J2_remove w a0 x1 K) : hx_Mq l yJ2_remove (ws9_J2_remove) rm_J2_remove G w [.ref a0, .int x1] K 0 0 := by
  refine Met.ofW (cc := cJ2_remove) (maxL := 4) (ret := (Option.some (Jvm.ClassFile.FieldType.object "java/lang/Object"))) (by decide +kernel) rfl ?_
  intro p e s m args below meth c s₁ B hml hv
  refine hx_in (own := RJ2) (av := [.ref a0, .int x1]) (vl := [(0, va_rf (some a0)), (1, .int x1)]) rfl rfl (Nat.le_of_ble_eq_true rfl) rfl B hml hv ?_
  intro C0 hU hH hr hlocks hin ls hl
  have hx := C0.1
  have hb := C0.2.1
  have hts := C0.2.2.2.2
  refine lv_iload_n hx hb dJ2_remove_0 rfl (lv_at hl 1 rfl) ?_
  refine hx_aload_n C0 dJ2_remove_1 rfl (lv_at hl 0 rfl) ?_
  refine hx_gI C0 hU hH (ci := 7) rfl in_J2 2 (by decide) q118 (fun _ h9 => h9) h dJ2_remove_2 (fun i_1 h => ?_)
  refine hx_Si C0 hU hH (As := [.int x1, .int i_1]) (wk_J15_checkIndex l h) (va_cwS 2 hts (lw_S q472 q473 q83 q474) rfl rfl rfl (by decide +kernel) ⟨Nat.le_of_ble_eq_true rfl, Nat.le_of_ble_eq_true rfl⟩) rfl hl.1 rfl (Nat.le_of_ble_eq_true rfl) dJ2_remove_5 ⟨Nat.le_of_ble_eq_true rfl, Nat.le_of_ble_eq_true rfl⟩ (fun i_2 w H locs hH h => ?_)
  refine lv_pop hx hb dJ2_remove_8 rfl ?_
  refine hx_aload_n C0 dJ2_remove_9 rfl (lv_at hl 0 rfl) ?_
  refine hx_gR C0 hU hH (ci := 7) rfl in_J2 1 (by decide) q115 (fun _ h9 => h9) h dJ2_remove_10 (fun r_3 h => ?_)
  refine hx_astore_n C0 dJ2_remove_13 rfl hl (by decide) (lv' := [(2, va_rf r_3), (0, va_rf (some a0)), (1, .int x1)]) rfl (fun ls hl => ?_)
  refine hx_aload_n C0 dJ2_remove_14 rfl (lv_at hl 0 rfl) ?_
  refine lv_iload_n hx hb dJ2_remove_15 rfl (lv_at hl 2 rfl) ?_
  obtain ⟨b_4, rfl, h9⟩ := h
  have h := h9
  clear h9
  refine hx_aR C0 hU hH h dJ2_remove_16 (fun r_5 h => ?_)
  refine hx_astore_n C0 dJ2_remove_17 rfl hl (by decide) (lv' := [(3, va_rf r_5), (2, va_rf (some b_4)), (0, va_rf (some a0)), (1, .int x1)]) rfl (fun ls hl => ?_)
  refine hx_aload_n C0 dJ2_remove_18 rfl (lv_at hl 2 rfl) ?_
  refine hx_aload_n C0 dJ2_remove_19 rfl (lv_at hl 1 rfl) ?_
  refine lv_iload_n hx hb dJ2_remove_20 rfl (lv_at hl 3 rfl) ?_
  obtain ⟨ho, h⟩ := h
  refine hx_Vv C0 hU hH (As := [va_rf (some b_4), .int x1]) (wk_J2_fastRemove l h) (cwV 2 hts (lw_V q781 q783 qs21 q63 q784) rfl rfl rfl (by decide +kernel) ⟨Nat.le_of_ble_eq_true rfl, Nat.le_of_ble_eq_true rfl⟩) (hx_recv hU hH (ci := 7) rfl ho) rfl hl.1 rfl (Nat.le_of_ble_eq_true rfl) dJ2_remove_21 ⟨Nat.le_of_ble_eq_true rfl, Nat.le_of_ble_eq_true rfl⟩ (fun w H locs hH h => ?_)
  refine hx_aload_n C0 dJ2_remove_24 rfl (lv_at hl 0 rfl) ?_
  exact hx_retq (v := r_5) C0 hH hr (Or.inl ⟨_, rfl⟩) hlocks h (Nat.le_of_ble_eq_true rfl) (Nat.le_of_ble_eq_true rfl) dJ2_remove_25
