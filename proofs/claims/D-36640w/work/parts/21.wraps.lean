/-! BurrowlineLaw (printed by gen/gen.py: weakest preconditions and walks) -/
set_option maxRecDepth 100000
def wp_X0_pass (w : Hp) (a0 : Nat) (x1 : Int32) (a2 : Nat) (K : Hp → Int32 → Prop) : Prop :=
  isO w a0 0 <| wp_X1_pass w a0 x1 (fun w E => (E = eIA ∧ (K w (1 : Int32))) ∨ (E = eIS ∧ (K w (2 : Int32)))) fun w i_1 => sJ w a2 (0 : Int32) (i_1.toInt64) fun w => K w (0 : Int32)
abbrev rm_X0_pass : Room := { frames := 7, cells := 1, slots := 6, locals := 103 }
abbrev ws9_X0_pass : List Cond := wsW_ yX0_pass cX0_pass 4 (Option.some Jvm.ClassFile.FieldType.int) [((0 : Nat), (9 : Nat), (12 : Nat), (13 : Nat)), ((0 : Nat), (9 : Nat), (15 : Nat), (15 : Nat))]
abbrev Q9_X0_pass (below : List Frame) (args : Array Value) (s : State) (G : hG) (K : Hp → Int32 → Prop) : State → Prop := MQ below (hx_Qi G K) args s 1 6 (hx_A G)
set_option maxHeartbeats 4000000 in
set_option maxRecDepth 100000 in
theorem wk_X0_pass (l : Launch) (hst : l.stackTraces = false) {G : hG} {w : Hp} {a0 : Nat} {x1 : Int32} {a2 : Nat} {K : Hp → Int32 → Prop} (h : wp_X0_pass w a0 x1 a2 K) : hx_Mi l yX0_pass (ws9_X0_pass) rm_X0_pass G w [.ref a0, .int x1, .ref a2] K 1 6 := by
  refine va_MetW (cc := cX0_pass) (maxL := 4) (ret := (Option.some Jvm.ClassFile.FieldType.int)) (by decide +kernel) rfl ?_
  intro p e s m args below meth c s₁ B hml hv
  refine hx_in (own := RX0) (av := [.ref a0, .int x1, .ref a2]) (vl := [(0, va_rf (some a0)), (1, .int x1), (2, va_rf (some a2))]) rfl rfl (Nat.le_of_ble_eq_true rfl) rfl B hml hv ?_
  intro C0 hU hH hr hlocks hin ls hl
  have hx := C0.1
  have hb := C0.2.1
  have hts := C0.2.2.2.2
  have htab := vx_table (x := yX0_pass) B (hts _ q489)
  refine hx_aload_n C0 dX0_pass_0 rfl (lv_at hl 2 rfl) ?_
  refine lv_iconst (v := 0) hx hb dX0_pass_1 (by decide) ?_
  refine hx_aload_n C0 dX0_pass_2 rfl (lv_at hl 0 rfl) ?_
  refine lv_iload_n hx hb dX0_pass_3 rfl (lv_at hl 1 rfl) ?_
  obtain ⟨ho, h⟩ := h
  refine hx_xVi C0 hU hH (As := [.int x1]) (wk_X1_pass l hst h) (cwV 1 hts (lw_V q492 q493 q494 q60 q495) rfl rfl rfl (by decide +kernel) ⟨Nat.le_of_ble_eq_true rfl, Nat.le_of_ble_eq_true rfl⟩) (hx_recv hU hH (ci := 0) rfl ho) rfl hl.1 rfl (Nat.le_of_ble_eq_true rfl) dX0_pass_4 ⟨Nat.le_of_ble_eq_true rfl, Nat.le_of_ble_eq_true rfl⟩ (fun E ce q9 w H locs hH hXE h1 h2 h3 => ?_) (fun i_1 w H locs hH h => ?_)
  · rcases hXE with ⟨rfl, h⟩ | ⟨rfl, h⟩
    · refine vx_catch C0.2.2.2.1 (name := eIA) (tableOf []) ⟨0, 9, 12, 13⟩ (tableOf [(0, 9, 15, 15)]) (htab.trans rfl) (List.forall_mem_nil _) rfl (by decide) (hts _ q490) (va_Nw.use rfl (hU.2.2.1 _ q498 rfl)) h1 h2 h3 ?_
      refine hx_astore_n C0 dX0_pass_12 rfl hl (by decide) (lv' := [(3, va_rf (some q9)), (0, va_rf (some a0)), (1, .int x1), (2, va_rf (some a2))]) rfl (fun ls hl => ?_)
      refine lv_iconst (v := 1) hx hb dX0_pass_13 (by decide) ?_
      exact hx_reti C0 hH hr hlocks h (Nat.le_of_ble_eq_true rfl) (Nat.le_of_ble_eq_true rfl) dX0_pass_14
    · refine vx_catch C0.2.2.2.1 (name := eIS) (tableOf [(0, 9, 12, 13)]) ⟨0, 9, 15, 15⟩ (tableOf []) (htab.trans rfl) (List.forall_mem_cons.mpr ⟨Or.inr ⟨by decide, eIA, hts _ q490, hU.2.2.2.2.2.2.1 (eIS, eIA) (by decide)⟩, (List.forall_mem_nil _)⟩) rfl (by decide) (hts _ q491) (va_Nw.use rfl (hU.2.2.1 _ q524 rfl)) h1 h2 h3 ?_
      refine hx_astore_n C0 dX0_pass_15 rfl hl (by decide) (lv' := [(3, va_rf (some q9)), (0, va_rf (some a0)), (1, .int x1), (2, va_rf (some a2))]) rfl (fun ls hl => ?_)
      refine lv_iconst (v := 2) hx hb dX0_pass_16 (by decide) ?_
      exact hx_reti C0 hH hr hlocks h (Nat.le_of_ble_eq_true rfl) (Nat.le_of_ble_eq_true rfl) dX0_pass_17
  refine lv_i2l hx hb dX0_pass_7 rfl ?_
  refine hx_sJ C0 hU hH h dX0_pass_8 (fun w H locs hH h => ?_)
  refine lv_goto hx hb dX0_pass_9 (tgt := 18) (by decide) ?_
  refine lv_iconst (v := 0) hx hb dX0_pass_18 (by decide) ?_
  exact hx_reti C0 hH hr hlocks h (Nat.le_of_ble_eq_true rfl) (Nat.le_of_ble_eq_true rfl) dX0_pass_19
def wp_X0_move (w : Hp) (a0 : Nat) (x1 : Int32) (x2 : Int32) (a3 : Nat) (K : Hp → Int32 → Prop) : Prop :=
  isO w a0 0 <| wp_X1_move w a0 x1 x2 (fun w E => (E = eIO ∧ (K w (1 : Int32))) ∨ (E = eIA ∧ (K w (2 : Int32)))) fun w i_1 => sJ w a3 (0 : Int32) (i_1.toInt64) fun w => K w (0 : Int32)
abbrev rm_X0_move : Room := { frames := 8, cells := 2, slots := 12, locals := 125 }
abbrev ws9_X0_move : List Cond := wsW_ yX0_move cX0_move 5 (Option.some Jvm.ClassFile.FieldType.int) [((0 : Nat), (10 : Nat), (13 : Nat), (21 : Nat)), ((0 : Nat), (10 : Nat), (17 : Nat), (13 : Nat))]
abbrev Q9_X0_move (below : List Frame) (args : Array Value) (s : State) (G : hG) (K : Hp → Int32 → Prop) : State → Prop := MQ below (hx_Qi G K) args s 2 12 (hx_A G)
set_option maxHeartbeats 4000000 in
set_option maxRecDepth 100000 in
theorem wk_X0_move (l : Launch) (hst : l.stackTraces = false) {G : hG} {w : Hp} {a0 : Nat} {x1 : Int32} {x2 : Int32} {a3 : Nat} {K : Hp → Int32 → Prop} (h : wp_X0_move w a0 x1 x2 a3 K) : hx_Mi l yX0_move (ws9_X0_move) rm_X0_move G w [.ref a0, .int x1, .int x2, .ref a3] K 2 12 := by
  refine va_MetW (cc := cX0_move) (maxL := 5) (ret := (Option.some Jvm.ClassFile.FieldType.int)) (by decide +kernel) rfl ?_
  intro p e s m args below meth c s₁ B hml hv
  refine hx_in (own := RX0) (av := [.ref a0, .int x1, .int x2, .ref a3]) (vl := [(0, va_rf (some a0)), (1, .int x1), (2, .int x2), (3, va_rf (some a3))]) rfl rfl (Nat.le_of_ble_eq_true rfl) rfl B hml hv ?_
  intro C0 hU hH hr hlocks hin ls hl
  have hx := C0.1
  have hb := C0.2.1
  have hts := C0.2.2.2.2
  have htab := vx_table (x := yX0_move) B (hts _ q540)
  refine hx_aload_n C0 dX0_move_0 rfl (lv_at hl 3 rfl) ?_
  refine lv_iconst (v := 0) hx hb dX0_move_1 (by decide) ?_
  refine hx_aload_n C0 dX0_move_2 rfl (lv_at hl 0 rfl) ?_
  refine lv_iload_n hx hb dX0_move_3 rfl (lv_at hl 1 rfl) ?_
  refine lv_iload_n hx hb dX0_move_4 rfl (lv_at hl 2 rfl) ?_
  obtain ⟨ho, h⟩ := h
  refine hx_xVi C0 hU hH (As := [.int x1, .int x2]) (wk_X1_move l hst h) (cwV 2 hts (lw_V q565 q566 q567 q60 q568) rfl rfl rfl (by decide +kernel) ⟨Nat.le_of_ble_eq_true rfl, Nat.le_of_ble_eq_true rfl⟩) (hx_recv hU hH (ci := 0) rfl ho) rfl hl.1 rfl (Nat.le_of_ble_eq_true rfl) dX0_move_5 ⟨Nat.le_of_ble_eq_true rfl, Nat.le_of_ble_eq_true rfl⟩ (fun E ce q9 w H locs hH hXE h1 h2 h3 => ?_) (fun i_1 w H locs hH h => ?_)
  · rcases hXE with ⟨rfl, h⟩ | ⟨rfl, h⟩
    · refine vx_catch C0.2.2.2.1 (name := eIO) (tableOf []) ⟨0, 10, 13, 21⟩ (tableOf [(0, 10, 17, 13)]) (htab.trans rfl) (List.forall_mem_nil _) rfl (by decide) (hts _ q541) (va_Nw.use rfl (hU.2.2.1 _ q574 rfl)) h1 h2 h3 ?_
      refine hx_astore C0 dX0_move_13 hl (by decide) (lv' := [(4, va_rf (some q9)), (0, va_rf (some a0)), (1, .int x1), (2, .int x2), (3, va_rf (some a3))]) rfl (fun ls hl => ?_)
      refine lv_iconst (v := 1) hx hb dX0_move_15 (by decide) ?_
      exact hx_reti C0 hH hr hlocks h (Nat.le_of_ble_eq_true rfl) (Nat.le_of_ble_eq_true rfl) dX0_move_16
    · refine vx_catch C0.2.2.2.1 (name := eIA) (tableOf [(0, 10, 13, 21)]) ⟨0, 10, 17, 13⟩ (tableOf []) (htab.trans rfl) (List.forall_mem_cons.mpr ⟨Or.inr ⟨by decide, eIO, hts _ q541, hU.2.2.2.2.2.2.1 (eIA, eIO) (by decide)⟩, (List.forall_mem_nil _)⟩) rfl (by decide) (hts _ q490) (va_Nw.use rfl (hU.2.2.1 _ q498 rfl)) h1 h2 h3 ?_
      refine hx_astore C0 dX0_move_17 hl (by decide) (lv' := [(4, va_rf (some q9)), (0, va_rf (some a0)), (1, .int x1), (2, .int x2), (3, va_rf (some a3))]) rfl (fun ls hl => ?_)
      refine lv_iconst (v := 2) hx hb dX0_move_19 (by decide) ?_
      exact hx_reti C0 hH hr hlocks h (Nat.le_of_ble_eq_true rfl) (Nat.le_of_ble_eq_true rfl) dX0_move_20
  refine lv_i2l hx hb dX0_move_8 rfl ?_
  refine hx_sJ C0 hU hH h dX0_move_9 (fun w H locs hH h => ?_)
  refine lv_goto hx hb dX0_move_10 (tgt := 21) (by decide) ?_
  refine lv_iconst (v := 0) hx hb dX0_move_21 (by decide) ?_
  exact hx_reti C0 hH hr hlocks h (Nat.le_of_ble_eq_true rfl) (Nat.le_of_ble_eq_true rfl) dX0_move_22
def wp_X0_load_b16 (K : Hp → Int32 → Prop)  (w : Hp) (t0 : Int64) (t1 : Int32) (at2 : Nat) : Prop :=
  sJ w at2 t1 t0 fun w => K w (0 : Int32)
def wp_X0_load (w : Hp) (a0 : Nat) (x1 : Int32) (x2 : Int32) (a3 : Nat) (K : Hp → Int32 → Prop) : Prop :=
  isO w a0 0 <| wp_X1_load w a0 x1 x2 (fun w E => (E = eIO ∧ (K w (1 : Int32)))) fun w i_1 => br (i_1 = 0) (wp_X0_load_b16 K w (0 : Int64) (0 : Int32) a3) (wp_X0_load_b16 K w (1 : Int64) (0 : Int32) a3)
abbrev rm_X0_load : Room := { frames := 8, cells := 1, slots := 6, locals := 125 }
abbrev ws9_X0_load : List Cond := wsW_ yX0_load cX0_load 5 (Option.some Jvm.ClassFile.FieldType.int) [((0 : Nat), (17 : Nat), (20 : Nat), (21 : Nat))]
abbrev Q9_X0_load (below : List Frame) (args : Array Value) (s : State) (G : hG) (K : Hp → Int32 → Prop) : State → Prop := MQ below (hx_Qi G K) args s 1 6 (hx_A G)
set_option maxHeartbeats 4000000 in
set_option maxRecDepth 100000 in
theorem wk_X0_load (l : Launch) (hst : l.stackTraces = false) {G : hG} {w : Hp} {a0 : Nat} {x1 : Int32} {x2 : Int32} {a3 : Nat} {K : Hp → Int32 → Prop} (h : wp_X0_load w a0 x1 x2 a3 K) : hx_Mi l yX0_load (ws9_X0_load) rm_X0_load G w [.ref a0, .int x1, .int x2, .ref a3] K 1 6 := by
  refine va_MetW (cc := cX0_load) (maxL := 5) (ret := (Option.some Jvm.ClassFile.FieldType.int)) (by decide +kernel) rfl ?_
  intro p e s m args below meth c s₁ B hml hv
  refine hx_in (own := RX0) (av := [.ref a0, .int x1, .int x2, .ref a3]) (vl := [(0, va_rf (some a0)), (1, .int x1), (2, .int x2), (3, va_rf (some a3))]) rfl rfl (Nat.le_of_ble_eq_true rfl) rfl B hml hv ?_
  intro C0 hU hH hr hlocks hin ls hl
  have hx := C0.1
  have hb := C0.2.1
  have hts := C0.2.2.2.2
  have htab := vx_table (x := yX0_load) B (hts _ q588)
  have b16 : ∀ (w : Hp) (t0 : Int64) (t1 : Int32) (at2 : Nat), wp_X0_load_b16 K  w t0 t1 at2 → ∀ (H : Heap) (locs : List Loc) (ls : Array Slot), hx_H G w s H locs → lv_has ls 5 [] → W p l e (headSpec (ws9_X0_load) rm_X0_load).room s m args below meth c H locs (1) (6) (Q9_X0_load below args s G K) (F0 m 16 ls [.long t0, .int t1, va_rf (some at2)]) := by
    intro w t0 t1 at2 h H locs ls hH hl
    refine hx_sJ C0 hU hH h dX0_load_16 (fun w H locs hH h => ?_)
    refine lv_goto hx hb dX0_load_17 (tgt := 24) (by decide) ?_
    refine lv_iconst (v := 0) hx hb dX0_load_24 (by decide) ?_
    exact hx_reti C0 hH hr hlocks h (Nat.le_of_ble_eq_true rfl) (Nat.le_of_ble_eq_true rfl) dX0_load_25
  refine hx_aload_n C0 dX0_load_0 rfl (lv_at hl 3 rfl) ?_
  refine lv_iconst (v := 0) hx hb dX0_load_1 (by decide) ?_
  refine hx_aload_n C0 dX0_load_2 rfl (lv_at hl 0 rfl) ?_
  refine lv_iload_n hx hb dX0_load_3 rfl (lv_at hl 1 rfl) ?_
  refine lv_iload_n hx hb dX0_load_4 rfl (lv_at hl 2 rfl) ?_
  obtain ⟨ho, h⟩ := h
  refine hx_xVi C0 hU hH (As := [.int x1, .int x2]) (wk_X1_load l hst h) (cwV 2 hts (lw_V q589 q590 q591 q60 q592) rfl rfl rfl (by decide +kernel) ⟨Nat.le_of_ble_eq_true rfl, Nat.le_of_ble_eq_true rfl⟩) (hx_recv hU hH (ci := 0) rfl ho) rfl hl.1 rfl (Nat.le_of_ble_eq_true rfl) dX0_load_5 ⟨Nat.le_of_ble_eq_true rfl, Nat.le_of_ble_eq_true rfl⟩ (fun E ce q9 w H locs hH hXE h1 h2 h3 => ?_) (fun i_1 w H locs hH h => ?_)
  · obtain ⟨rfl, h⟩ := hXE
    refine vx_catch C0.2.2.2.1 (name := eIO) (tableOf []) ⟨0, 17, 20, 21⟩ (tableOf []) (htab.trans rfl) (List.forall_mem_nil _) rfl (by decide) (hts _ q541) (va_Nw.use rfl (hU.2.2.1 _ q574 rfl)) h1 h2 h3 ?_
    refine hx_astore C0 dX0_load_20 hl (by decide) (lv' := [(4, va_rf (some q9)), (0, va_rf (some a0)), (1, .int x1), (2, .int x2), (3, va_rf (some a3))]) rfl (fun ls hl => ?_)
    refine lv_iconst (v := 1) hx hb dX0_load_22 (by decide) ?_
    exact hx_reti C0 hH hr hlocks h (Nat.le_of_ble_eq_true rfl) (Nat.le_of_ble_eq_true rfl) dX0_load_23
  refine lv_if_eq hx hb dX0_load_8 (tgt := 15) (by decide) (fun c_2 => ?_) (fun c_2 => ?_)
  · have h := h.1 c_2
    refine lv_lconst (v := 0) hx hb dX0_load_15 (by decide) ?_
    refine W.widen (k := 1) (n := 6) (Nat.le_of_ble_eq_true rfl) (Nat.le_of_ble_eq_true rfl) ?_
    exact b16 _ _ _ _ h _ _ _ hH (lv_sub hl [] rfl)
  · have h := h.2 c_2
    refine lv_lconst (v := 1) hx hb dX0_load_11 (by decide) ?_
    refine lv_goto hx hb dX0_load_12 (tgt := 16) (by decide) ?_
    refine W.widen (k := 1) (n := 6) (Nat.le_of_ble_eq_true rfl) (Nat.le_of_ble_eq_true rfl) ?_
    exact b16 _ _ _ _ h _ _ _ hH (lv_sub hl [] rfl)
def wp_X0_allow (w : Hp) (a0 : Nat) (x1 : Int32) (x2 : Int32) (x3 : Int32) (x4 : Int32) (a5 : Nat) (K : Hp → Int32 → Prop) : Prop :=
  isO w a0 0 <| wp_X1_allow w a0 x1 x2 x3 x4 (fun w E => (E = eIO ∧ (K w (1 : Int32))) ∨ (E = eIA ∧ (K w (2 : Int32))) ∨ (E = eIS ∧ (K w (3 : Int32)))) fun w i_1 => sJ w a5 (0 : Int32) (i_1.toInt64) fun w => K w (0 : Int32)
abbrev rm_X0_allow : Room := { frames := 8, cells := 3, slots := 18, locals := 129 }
abbrev ws9_X0_allow : List Cond := wsW_ yX0_allow cX0_allow 7 (Option.some Jvm.ClassFile.FieldType.int) [((0 : Nat), (14 : Nat), (17 : Nat), (21 : Nat)), ((0 : Nat), (14 : Nat), (21 : Nat), (13 : Nat)), ((0 : Nat), (14 : Nat), (25 : Nat), (15 : Nat))]
abbrev Q9_X0_allow (below : List Frame) (args : Array Value) (s : State) (G : hG) (K : Hp → Int32 → Prop) : State → Prop := MQ below (hx_Qi G K) args s 3 18 (hx_A G)
set_option maxHeartbeats 4000000 in
set_option maxRecDepth 100000 in
theorem wk_X0_allow (l : Launch) (hst : l.stackTraces = false) {G : hG} {w : Hp} {a0 : Nat} {x1 : Int32} {x2 : Int32} {x3 : Int32} {x4 : Int32} {a5 : Nat} {K : Hp → Int32 → Prop} (h : wp_X0_allow w a0 x1 x2 x3 x4 a5 K) : hx_Mi l yX0_allow (ws9_X0_allow) rm_X0_allow G w [.ref a0, .int x1, .int x2, .int x3, .int x4, .ref a5] K 3 18 := by
  refine va_MetW (cc := cX0_allow) (maxL := 7) (ret := (Option.some Jvm.ClassFile.FieldType.int)) (by decide +kernel) rfl ?_
  intro p e s m args below meth c s₁ B hml hv
  refine hx_in (own := RX0) (av := [.ref a0, .int x1, .int x2, .int x3, .int x4, .ref a5]) (vl := [(0, va_rf (some a0)), (1, .int x1), (2, .int x2), (3, .int x3), (4, .int x4), (5, va_rf (some a5))]) rfl rfl (Nat.le_of_ble_eq_true rfl) rfl B hml hv ?_
  intro C0 hU hH hr hlocks hin ls hl
  have hx := C0.1
  have hb := C0.2.1
  have hts := C0.2.2.2.2
  have htab := vx_table (x := yX0_allow) B (hts _ q595)
  refine hx_aload C0 dX0_allow_0 (lv_at hl 5 rfl) ?_
  refine lv_iconst (v := 0) hx hb dX0_allow_2 (by decide) ?_
  refine hx_aload_n C0 dX0_allow_3 rfl (lv_at hl 0 rfl) ?_
  refine lv_iload_n hx hb dX0_allow_4 rfl (lv_at hl 1 rfl) ?_
  refine lv_iload_n hx hb dX0_allow_5 rfl (lv_at hl 2 rfl) ?_
  refine lv_iload_n hx hb dX0_allow_6 rfl (lv_at hl 3 rfl) ?_
  refine lv_iload hx hb dX0_allow_7 (lv_at hl 4 rfl) ?_
  obtain ⟨ho, h⟩ := h
  refine hx_xVi C0 hU hH (As := [.int x1, .int x2, .int x3, .int x4]) (wk_X1_allow l hst h) (cwV 4 hts (lw_V q596 q597 q598 q60 q599) rfl rfl rfl (by decide +kernel) ⟨Nat.le_of_ble_eq_true rfl, Nat.le_of_ble_eq_true rfl⟩) (hx_recv hU hH (ci := 0) rfl ho) rfl hl.1 rfl (Nat.le_of_ble_eq_true rfl) dX0_allow_9 ⟨Nat.le_of_ble_eq_true rfl, Nat.le_of_ble_eq_true rfl⟩ (fun E ce q9 w H locs hH hXE h1 h2 h3 => ?_) (fun i_1 w H locs hH h => ?_)
  · rcases hXE with ⟨rfl, h⟩ | ⟨rfl, h⟩ | ⟨rfl, h⟩
    · refine vx_catch C0.2.2.2.1 (name := eIO) (tableOf []) ⟨0, 14, 17, 21⟩ (tableOf [(0, 14, 21, 13), (0, 14, 25, 15)]) (htab.trans rfl) (List.forall_mem_nil _) rfl (by decide) (hts _ q541) (va_Nw.use rfl (hU.2.2.1 _ q574 rfl)) h1 h2 h3 ?_
      refine hx_astore C0 dX0_allow_17 hl (by decide) (lv' := [(6, va_rf (some q9)), (0, va_rf (some a0)), (1, .int x1), (2, .int x2), (3, .int x3), (4, .int x4), (5, va_rf (some a5))]) rfl (fun ls hl => ?_)
      refine lv_iconst (v := 1) hx hb dX0_allow_19 (by decide) ?_
      exact hx_reti C0 hH hr hlocks h (Nat.le_of_ble_eq_true rfl) (Nat.le_of_ble_eq_true rfl) dX0_allow_20
    · refine vx_catch C0.2.2.2.1 (name := eIA) (tableOf [(0, 14, 17, 21)]) ⟨0, 14, 21, 13⟩ (tableOf [(0, 14, 25, 15)]) (htab.trans rfl) (List.forall_mem_cons.mpr ⟨Or.inr ⟨by decide, eIO, hts _ q541, hU.2.2.2.2.2.2.1 (eIA, eIO) (by decide)⟩, (List.forall_mem_nil _)⟩) rfl (by decide) (hts _ q490) (va_Nw.use rfl (hU.2.2.1 _ q498 rfl)) h1 h2 h3 ?_
      refine hx_astore C0 dX0_allow_21 hl (by decide) (lv' := [(6, va_rf (some q9)), (0, va_rf (some a0)), (1, .int x1), (2, .int x2), (3, .int x3), (4, .int x4), (5, va_rf (some a5))]) rfl (fun ls hl => ?_)
      refine lv_iconst (v := 2) hx hb dX0_allow_23 (by decide) ?_
      exact hx_reti C0 hH hr hlocks h (Nat.le_of_ble_eq_true rfl) (Nat.le_of_ble_eq_true rfl) dX0_allow_24
    · refine vx_catch C0.2.2.2.1 (name := eIS) (tableOf [(0, 14, 17, 21), (0, 14, 21, 13)]) ⟨0, 14, 25, 15⟩ (tableOf []) (htab.trans rfl) (List.forall_mem_cons.mpr ⟨Or.inr ⟨by decide, eIO, hts _ q541, hU.2.2.2.2.2.2.1 (eIS, eIO) (by decide)⟩, (List.forall_mem_cons.mpr ⟨Or.inr ⟨by decide, eIA, hts _ q490, hU.2.2.2.2.2.2.1 (eIS, eIA) (by decide)⟩, (List.forall_mem_nil _)⟩)⟩) rfl (by decide) (hts _ q491) (va_Nw.use rfl (hU.2.2.1 _ q524 rfl)) h1 h2 h3 ?_
      refine hx_astore C0 dX0_allow_25 hl (by decide) (lv' := [(6, va_rf (some q9)), (0, va_rf (some a0)), (1, .int x1), (2, .int x2), (3, .int x3), (4, .int x4), (5, va_rf (some a5))]) rfl (fun ls hl => ?_)
      refine lv_iconst (v := 3) hx hb dX0_allow_27 (by decide) ?_
      exact hx_reti C0 hH hr hlocks h (Nat.le_of_ble_eq_true rfl) (Nat.le_of_ble_eq_true rfl) dX0_allow_28
  refine lv_i2l hx hb dX0_allow_12 rfl ?_
  refine hx_sJ C0 hU hH h dX0_allow_13 (fun w H locs hH h => ?_)
  refine lv_goto hx hb dX0_allow_14 (tgt := 29) (by decide) ?_
  refine lv_iconst (v := 0) hx hb dX0_allow_29 (by decide) ?_
  exact hx_reti C0 hH hr hlocks h (Nat.le_of_ble_eq_true rfl) (Nat.le_of_ble_eq_true rfl) dX0_allow_30
def wp_X0_forbid (w : Hp) (a0 : Nat) (x1 : Int32) (x2 : Int32) (x3 : Int32) (a4 : Nat) (K : Hp → Int32 → Prop) : Prop :=
  isO w a0 0 <| wp_X1_forbid w a0 x1 x2 x3 (fun w E => (E = eIO ∧ (K w (1 : Int32))) ∨ (E = eIA ∧ (K w (2 : Int32))) ∨ (E = eNS ∧ (K w (3 : Int32)))) fun w i_1 => sJ w a4 (0 : Int32) (i_1.toInt64) fun w => K w (0 : Int32)
abbrev rm_X0_forbid : Room := { frames := 8, cells := 2, slots := 12, locals := 128 }
abbrev ws9_X0_forbid : List Cond := wsW_ yX0_forbid cX0_forbid 6 (Option.some Jvm.ClassFile.FieldType.int) [((0 : Nat), (12 : Nat), (15 : Nat), (21 : Nat)), ((0 : Nat), (12 : Nat), (19 : Nat), (13 : Nat)), ((0 : Nat), (12 : Nat), (23 : Nat), (35 : Nat))]
abbrev Q9_X0_forbid (below : List Frame) (args : Array Value) (s : State) (G : hG) (K : Hp → Int32 → Prop) : State → Prop := MQ below (hx_Qi G K) args s 2 12 (hx_A G)
set_option maxHeartbeats 4000000 in
set_option maxRecDepth 100000 in
theorem wk_X0_forbid (l : Launch) (hst : l.stackTraces = false) {G : hG} {w : Hp} {a0 : Nat} {x1 : Int32} {x2 : Int32} {x3 : Int32} {a4 : Nat} {K : Hp → Int32 → Prop} (h : wp_X0_forbid w a0 x1 x2 x3 a4 K) : hx_Mi l yX0_forbid (ws9_X0_forbid) rm_X0_forbid G w [.ref a0, .int x1, .int x2, .int x3, .ref a4] K 2 12 := by
  refine va_MetW (cc := cX0_forbid) (maxL := 6) (ret := (Option.some Jvm.ClassFile.FieldType.int)) (by decide +kernel) rfl ?_
  intro p e s m args below meth c s₁ B hml hv
  refine hx_in (own := RX0) (av := [.ref a0, .int x1, .int x2, .int x3, .ref a4]) (vl := [(0, va_rf (some a0)), (1, .int x1), (2, .int x2), (3, .int x3), (4, va_rf (some a4))]) rfl rfl (Nat.le_of_ble_eq_true rfl) rfl B hml hv ?_
  intro C0 hU hH hr hlocks hin ls hl
  have hx := C0.1
  have hb := C0.2.1
  have hts := C0.2.2.2.2
  have htab := vx_table (x := yX0_forbid) B (hts _ q611)
  refine hx_aload C0 dX0_forbid_0 (lv_at hl 4 rfl) ?_
  refine lv_iconst (v := 0) hx hb dX0_forbid_2 (by decide) ?_
  refine hx_aload_n C0 dX0_forbid_3 rfl (lv_at hl 0 rfl) ?_
  refine lv_iload_n hx hb dX0_forbid_4 rfl (lv_at hl 1 rfl) ?_
  refine lv_iload_n hx hb dX0_forbid_5 rfl (lv_at hl 2 rfl) ?_
  refine lv_iload_n hx hb dX0_forbid_6 rfl (lv_at hl 3 rfl) ?_
  obtain ⟨ho, h⟩ := h
  refine hx_xVi C0 hU hH (As := [.int x1, .int x2, .int x3]) (wk_X1_forbid l hst h) (cwV 3 hts (lw_V q613 q614 q615 q60 q616) rfl rfl rfl (by decide +kernel) ⟨Nat.le_of_ble_eq_true rfl, Nat.le_of_ble_eq_true rfl⟩) (hx_recv hU hH (ci := 0) rfl ho) rfl hl.1 rfl (Nat.le_of_ble_eq_true rfl) dX0_forbid_7 ⟨Nat.le_of_ble_eq_true rfl, Nat.le_of_ble_eq_true rfl⟩ (fun E ce q9 w H locs hH hXE h1 h2 h3 => ?_) (fun i_1 w H locs hH h => ?_)
  · rcases hXE with ⟨rfl, h⟩ | ⟨rfl, h⟩ | ⟨rfl, h⟩
    · refine vx_catch C0.2.2.2.1 (name := eIO) (tableOf []) ⟨0, 12, 15, 21⟩ (tableOf [(0, 12, 19, 13), (0, 12, 23, 35)]) (htab.trans rfl) (List.forall_mem_nil _) rfl (by decide) (hts _ q541) (va_Nw.use rfl (hU.2.2.1 _ q574 rfl)) h1 h2 h3 ?_
      refine hx_astore C0 dX0_forbid_15 hl (by decide) (lv' := [(5, va_rf (some q9)), (0, va_rf (some a0)), (1, .int x1), (2, .int x2), (3, .int x3), (4, va_rf (some a4))]) rfl (fun ls hl => ?_)
      refine lv_iconst (v := 1) hx hb dX0_forbid_17 (by decide) ?_
      exact hx_reti C0 hH hr hlocks h (Nat.le_of_ble_eq_true rfl) (Nat.le_of_ble_eq_true rfl) dX0_forbid_18
    · refine vx_catch C0.2.2.2.1 (name := eIA) (tableOf [(0, 12, 15, 21)]) ⟨0, 12, 19, 13⟩ (tableOf [(0, 12, 23, 35)]) (htab.trans rfl) (List.forall_mem_cons.mpr ⟨Or.inr ⟨by decide, eIO, hts _ q541, hU.2.2.2.2.2.2.1 (eIA, eIO) (by decide)⟩, (List.forall_mem_nil _)⟩) rfl (by decide) (hts _ q490) (va_Nw.use rfl (hU.2.2.1 _ q498 rfl)) h1 h2 h3 ?_
      refine hx_astore C0 dX0_forbid_19 hl (by decide) (lv' := [(5, va_rf (some q9)), (0, va_rf (some a0)), (1, .int x1), (2, .int x2), (3, .int x3), (4, va_rf (some a4))]) rfl (fun ls hl => ?_)
      refine lv_iconst (v := 2) hx hb dX0_forbid_21 (by decide) ?_
      exact hx_reti C0 hH hr hlocks h (Nat.le_of_ble_eq_true rfl) (Nat.le_of_ble_eq_true rfl) dX0_forbid_22
    · refine vx_catch C0.2.2.2.1 (name := eNS) (tableOf [(0, 12, 15, 21), (0, 12, 19, 13)]) ⟨0, 12, 23, 35⟩ (tableOf []) (htab.trans rfl) (List.forall_mem_cons.mpr ⟨Or.inr ⟨by decide, eIO, hts _ q541, hU.2.2.2.2.2.2.1 (eNS, eIO) (by decide)⟩, (List.forall_mem_cons.mpr ⟨Or.inr ⟨by decide, eIA, hts _ q490, hU.2.2.2.2.2.2.1 (eNS, eIA) (by decide)⟩, (List.forall_mem_nil _)⟩)⟩) rfl (by decide) (hts _ q612) (va_Nw.use rfl (hU.2.2.1 _ q374 rfl)) h1 h2 h3 ?_
      refine hx_astore C0 dX0_forbid_23 hl (by decide) (lv' := [(5, va_rf (some q9)), (0, va_rf (some a0)), (1, .int x1), (2, .int x2), (3, .int x3), (4, va_rf (some a4))]) rfl (fun ls hl => ?_)
      refine lv_iconst (v := 3) hx hb dX0_forbid_25 (by decide) ?_
      exact hx_reti C0 hH hr hlocks h (Nat.le_of_ble_eq_true rfl) (Nat.le_of_ble_eq_true rfl) dX0_forbid_26
  refine lv_i2l hx hb dX0_forbid_10 rfl ?_
  refine hx_sJ C0 hU hH h dX0_forbid_11 (fun w H locs hH h => ?_)
  refine lv_goto hx hb dX0_forbid_12 (tgt := 27) (by decide) ?_
  refine lv_iconst (v := 0) hx hb dX0_forbid_27 (by decide) ?_
  exact hx_reti C0 hH hr hlocks h (Nat.le_of_ble_eq_true rfl) (Nat.le_of_ble_eq_true rfl) dX0_forbid_28
def wp_X0_send (w : Hp) (a0 : Nat) (x1 : Int32) (x2 : Int32) (x3 : Int32) (x4 : Int32) (a5 : Nat) (K : Hp → Int32 → Prop) : Prop :=
  isO w a0 0 <| wp_X1_send w a0 x1 x2 x3 x4 (fun w E => (E = eIO ∧ (K w (1 : Int32))) ∨ (E = eIA ∧ (K w (2 : Int32)))) fun w i_1 => sJ w a5 (0 : Int32) (i_1.toInt64) fun w => K w (0 : Int32)
abbrev rm_X0_send : Room := { frames := 11, cells := 14, slots := 578, locals := 350 }
abbrev ws9_X0_send : List Cond := wsW_ yX0_send cX0_send 7 (Option.some Jvm.ClassFile.FieldType.int) [((0 : Nat), (14 : Nat), (17 : Nat), (21 : Nat)), ((0 : Nat), (14 : Nat), (21 : Nat), (13 : Nat))]
abbrev Q9_X0_send (below : List Frame) (args : Array Value) (s : State) (G : hG) (K : Hp → Int32 → Prop) : State → Prop := MQ below (hx_Qi G K) args s 14 578 (hx_A G)
set_option maxHeartbeats 4000000 in
set_option maxRecDepth 100000 in
theorem wk_X0_send (l : Launch) (hst : l.stackTraces = false) {G : hG} {w : Hp} {a0 : Nat} {x1 : Int32} {x2 : Int32} {x3 : Int32} {x4 : Int32} {a5 : Nat} {K : Hp → Int32 → Prop} (h : wp_X0_send w a0 x1 x2 x3 x4 a5 K) : hx_Mi l yX0_send (ws9_X0_send) rm_X0_send G w [.ref a0, .int x1, .int x2, .int x3, .int x4, .ref a5] K 14 578 := by
  refine va_MetW (cc := cX0_send) (maxL := 7) (ret := (Option.some Jvm.ClassFile.FieldType.int)) (by decide +kernel) rfl ?_
  intro p e s m args below meth c s₁ B hml hv
  refine hx_in (own := RX0) (av := [.ref a0, .int x1, .int x2, .int x3, .int x4, .ref a5]) (vl := [(0, va_rf (some a0)), (1, .int x1), (2, .int x2), (3, .int x3), (4, .int x4), (5, va_rf (some a5))]) rfl rfl (Nat.le_of_ble_eq_true rfl) rfl B hml hv ?_
  intro C0 hU hH hr hlocks hin ls hl
  have hx := C0.1
  have hb := C0.2.1
  have hts := C0.2.2.2.2
  have htab := vx_table (x := yX0_send) B (hts _ q624)
  refine hx_aload C0 dX0_send_0 (lv_at hl 5 rfl) ?_
  refine lv_iconst (v := 0) hx hb dX0_send_2 (by decide) ?_
  refine hx_aload_n C0 dX0_send_3 rfl (lv_at hl 0 rfl) ?_
  refine lv_iload_n hx hb dX0_send_4 rfl (lv_at hl 1 rfl) ?_
  refine lv_iload_n hx hb dX0_send_5 rfl (lv_at hl 2 rfl) ?_
  refine lv_iload_n hx hb dX0_send_6 rfl (lv_at hl 3 rfl) ?_
  refine lv_iload hx hb dX0_send_7 (lv_at hl 4 rfl) ?_
  obtain ⟨ho, h⟩ := h
  refine hx_xVi C0 hU hH (As := [.int x1, .int x2, .int x3, .int x4]) (wk_X1_send l hst h) (cwV 4 hts (lw_V q625 q626 q627 q60 q628) rfl rfl rfl (by decide +kernel) ⟨Nat.le_of_ble_eq_true rfl, Nat.le_of_ble_eq_true rfl⟩) (hx_recv hU hH (ci := 0) rfl ho) rfl hl.1 rfl (Nat.le_of_ble_eq_true rfl) dX0_send_9 ⟨Nat.le_of_ble_eq_true rfl, Nat.le_of_ble_eq_true rfl⟩ (fun E ce q9 w H locs hH hXE h1 h2 h3 => ?_) (fun i_1 w H locs hH h => ?_)
  · rcases hXE with ⟨rfl, h⟩ | ⟨rfl, h⟩
    · refine vx_catch C0.2.2.2.1 (name := eIO) (tableOf []) ⟨0, 14, 17, 21⟩ (tableOf [(0, 14, 21, 13)]) (htab.trans rfl) (List.forall_mem_nil _) rfl (by decide) (hts _ q541) (va_Nw.use rfl (hU.2.2.1 _ q574 rfl)) h1 h2 h3 ?_
      refine hx_astore C0 dX0_send_17 hl (by decide) (lv' := [(6, va_rf (some q9)), (0, va_rf (some a0)), (1, .int x1), (2, .int x2), (3, .int x3), (4, .int x4), (5, va_rf (some a5))]) rfl (fun ls hl => ?_)
      refine lv_iconst (v := 1) hx hb dX0_send_19 (by decide) ?_
      exact hx_reti C0 hH hr hlocks h (Nat.le_of_ble_eq_true rfl) (Nat.le_of_ble_eq_true rfl) dX0_send_20
    · refine vx_catch C0.2.2.2.1 (name := eIA) (tableOf [(0, 14, 17, 21)]) ⟨0, 14, 21, 13⟩ (tableOf []) (htab.trans rfl) (List.forall_mem_cons.mpr ⟨Or.inr ⟨by decide, eIO, hts _ q541, hU.2.2.2.2.2.2.1 (eIA, eIO) (by decide)⟩, (List.forall_mem_nil _)⟩) rfl (by decide) (hts _ q490) (va_Nw.use rfl (hU.2.2.1 _ q498 rfl)) h1 h2 h3 ?_
      refine hx_astore C0 dX0_send_21 hl (by decide) (lv' := [(6, va_rf (some q9)), (0, va_rf (some a0)), (1, .int x1), (2, .int x2), (3, .int x3), (4, .int x4), (5, va_rf (some a5))]) rfl (fun ls hl => ?_)
      refine lv_iconst (v := 2) hx hb dX0_send_23 (by decide) ?_
      exact hx_reti C0 hH hr hlocks h (Nat.le_of_ble_eq_true rfl) (Nat.le_of_ble_eq_true rfl) dX0_send_24
  refine lv_i2l hx hb dX0_send_12 rfl ?_
  refine hx_sJ C0 hU hH h dX0_send_13 (fun w H locs hH h => ?_)
  refine lv_goto hx hb dX0_send_14 (tgt := 25) (by decide) ?_
  refine lv_iconst (v := 0) hx hb dX0_send_25 (by decide) ?_
  exact hx_reti C0 hH hr hlocks h (Nat.le_of_ble_eq_true rfl) (Nat.le_of_ble_eq_true rfl) dX0_send_26
def wp_X0_keep_b16 (K : Hp → Int32 → Prop)  (w : Hp) (t0 : Int64) (t1 : Int32) (at2 : Nat) : Prop :=
  sJ w at2 t1 t0 fun w => K w (0 : Int32)
def wp_X0_keep (w : Hp) (a0 : Nat) (x1 : Int32) (x2 : Int32) (a3 : Nat) (K : Hp → Int32 → Prop) : Prop :=
  isO w a0 0 <| wp_X1_keep w a0 x1 x2 (fun w E => (E = eIO ∧ (K w (1 : Int32))) ∨ (E = eIA ∧ (K w (2 : Int32)))) fun w i_1 => br (i_1 = 0) (wp_X0_keep_b16 K w (0 : Int64) (0 : Int32) a3) (wp_X0_keep_b16 K w (1 : Int64) (0 : Int32) a3)
abbrev rm_X0_keep : Room := { frames := 11, cells := 8, slots := 299, locals := 343 }
abbrev ws9_X0_keep : List Cond := wsW_ yX0_keep cX0_keep 5 (Option.some Jvm.ClassFile.FieldType.int) [((0 : Nat), (17 : Nat), (20 : Nat), (21 : Nat)), ((0 : Nat), (17 : Nat), (24 : Nat), (13 : Nat))]
abbrev Q9_X0_keep (below : List Frame) (args : Array Value) (s : State) (G : hG) (K : Hp → Int32 → Prop) : State → Prop := MQ below (hx_Qi G K) args s 8 299 (hx_A G)
set_option maxHeartbeats 4000000 in
set_option maxRecDepth 100000 in
theorem wk_X0_keep (l : Launch) (hst : l.stackTraces = false) {G : hG} {w : Hp} {a0 : Nat} {x1 : Int32} {x2 : Int32} {a3 : Nat} {K : Hp → Int32 → Prop} (h : wp_X0_keep w a0 x1 x2 a3 K) : hx_Mi l yX0_keep (ws9_X0_keep) rm_X0_keep G w [.ref a0, .int x1, .int x2, .ref a3] K 8 299 := by
  refine va_MetW (cc := cX0_keep) (maxL := 5) (ret := (Option.some Jvm.ClassFile.FieldType.int)) (by decide +kernel) rfl ?_
  intro p e s m args below meth c s₁ B hml hv
  refine hx_in (own := RX0) (av := [.ref a0, .int x1, .int x2, .ref a3]) (vl := [(0, va_rf (some a0)), (1, .int x1), (2, .int x2), (3, va_rf (some a3))]) rfl rfl (Nat.le_of_ble_eq_true rfl) rfl B hml hv ?_
  intro C0 hU hH hr hlocks hin ls hl
  have hx := C0.1
  have hb := C0.2.1
  have hts := C0.2.2.2.2
  have htab := vx_table (x := yX0_keep) B (hts _ q748)
  have b16 : ∀ (w : Hp) (t0 : Int64) (t1 : Int32) (at2 : Nat), wp_X0_keep_b16 K  w t0 t1 at2 → ∀ (H : Heap) (locs : List Loc) (ls : Array Slot), hx_H G w s H locs → lv_has ls 5 [] → W p l e (headSpec (ws9_X0_keep) rm_X0_keep).room s m args below meth c H locs (8) (299) (Q9_X0_keep below args s G K) (F0 m 16 ls [.long t0, .int t1, va_rf (some at2)]) := by
    intro w t0 t1 at2 h H locs ls hH hl
    refine hx_sJ C0 hU hH h dX0_keep_16 (fun w H locs hH h => ?_)
    refine lv_goto hx hb dX0_keep_17 (tgt := 28) (by decide) ?_
    refine lv_iconst (v := 0) hx hb dX0_keep_28 (by decide) ?_
    exact hx_reti C0 hH hr hlocks h (Nat.le_of_ble_eq_true rfl) (Nat.le_of_ble_eq_true rfl) dX0_keep_29
  refine hx_aload_n C0 dX0_keep_0 rfl (lv_at hl 3 rfl) ?_
  refine lv_iconst (v := 0) hx hb dX0_keep_1 (by decide) ?_
  refine hx_aload_n C0 dX0_keep_2 rfl (lv_at hl 0 rfl) ?_
  refine lv_iload_n hx hb dX0_keep_3 rfl (lv_at hl 1 rfl) ?_
  refine lv_iload_n hx hb dX0_keep_4 rfl (lv_at hl 2 rfl) ?_
  obtain ⟨ho, h⟩ := h
  refine hx_xVi C0 hU hH (As := [.int x1, .int x2]) (wk_X1_keep l hst h) (cwV 2 hts (lw_V q749 q750 q751 q60 q752) rfl rfl rfl (by decide +kernel) ⟨Nat.le_of_ble_eq_true rfl, Nat.le_of_ble_eq_true rfl⟩) (hx_recv hU hH (ci := 0) rfl ho) rfl hl.1 rfl (Nat.le_of_ble_eq_true rfl) dX0_keep_5 ⟨Nat.le_of_ble_eq_true rfl, Nat.le_of_ble_eq_true rfl⟩ (fun E ce q9 w H locs hH hXE h1 h2 h3 => ?_) (fun i_1 w H locs hH h => ?_)
  · rcases hXE with ⟨rfl, h⟩ | ⟨rfl, h⟩
    · refine vx_catch C0.2.2.2.1 (name := eIO) (tableOf []) ⟨0, 17, 20, 21⟩ (tableOf [(0, 17, 24, 13)]) (htab.trans rfl) (List.forall_mem_nil _) rfl (by decide) (hts _ q541) (va_Nw.use rfl (hU.2.2.1 _ q574 rfl)) h1 h2 h3 ?_
      refine hx_astore C0 dX0_keep_20 hl (by decide) (lv' := [(4, va_rf (some q9)), (0, va_rf (some a0)), (1, .int x1), (2, .int x2), (3, va_rf (some a3))]) rfl (fun ls hl => ?_)
      refine lv_iconst (v := 1) hx hb dX0_keep_22 (by decide) ?_
      exact hx_reti C0 hH hr hlocks h (Nat.le_of_ble_eq_true rfl) (Nat.le_of_ble_eq_true rfl) dX0_keep_23
    · refine vx_catch C0.2.2.2.1 (name := eIA) (tableOf [(0, 17, 20, 21)]) ⟨0, 17, 24, 13⟩ (tableOf []) (htab.trans rfl) (List.forall_mem_cons.mpr ⟨Or.inr ⟨by decide, eIO, hts _ q541, hU.2.2.2.2.2.2.1 (eIA, eIO) (by decide)⟩, (List.forall_mem_nil _)⟩) rfl (by decide) (hts _ q490) (va_Nw.use rfl (hU.2.2.1 _ q498 rfl)) h1 h2 h3 ?_
      refine hx_astore C0 dX0_keep_24 hl (by decide) (lv' := [(4, va_rf (some q9)), (0, va_rf (some a0)), (1, .int x1), (2, .int x2), (3, va_rf (some a3))]) rfl (fun ls hl => ?_)
      refine lv_iconst (v := 2) hx hb dX0_keep_26 (by decide) ?_
      exact hx_reti C0 hH hr hlocks h (Nat.le_of_ble_eq_true rfl) (Nat.le_of_ble_eq_true rfl) dX0_keep_27
  refine lv_if_eq hx hb dX0_keep_8 (tgt := 15) (by decide) (fun c_2 => ?_) (fun c_2 => ?_)
  · have h := h.1 c_2
    refine lv_lconst (v := 0) hx hb dX0_keep_15 (by decide) ?_
    refine W.widen (k := 8) (n := 299) (Nat.le_of_ble_eq_true rfl) (Nat.le_of_ble_eq_true rfl) ?_
    exact b16 _ _ _ _ h _ _ _ hH (lv_sub hl [] rfl)
  · have h := h.2 c_2
    refine lv_lconst (v := 1) hx hb dX0_keep_11 (by decide) ?_
    refine lv_goto hx hb dX0_keep_12 (tgt := 16) (by decide) ?_
    refine W.widen (k := 8) (n := 299) (Nat.le_of_ble_eq_true rfl) (Nat.le_of_ble_eq_true rfl) ?_
    exact b16 _ _ _ _ h _ _ _ hH (lv_sub hl [] rfl)
def wp_X0_greet (w : Hp) (a0 : Nat) (x1 : Int32) (x2 : Int32) (a3 : Nat) (K : Hp → Int32 → Prop) : Prop :=
  isO w a0 0 <| wp_X1_greet w a0 x1 x2 (fun w E => (E = eIO ∧ (K w (1 : Int32))) ∨ (E = eIA ∧ (K w (2 : Int32))) ∨ (E = eIS ∧ (K w (3 : Int32)))) fun w i_1 => sJ w a3 (0 : Int32) (i_1.toInt64) fun w => K w (0 : Int32)
abbrev rm_X0_greet : Room := { frames := 11, cells := 11, slots := 309, locals := 345 }
abbrev ws9_X0_greet : List Cond := wsW_ yX0_greet cX0_greet 5 (Option.some Jvm.ClassFile.FieldType.int) [((0 : Nat), (10 : Nat), (13 : Nat), (21 : Nat)), ((0 : Nat), (10 : Nat), (17 : Nat), (13 : Nat)), ((0 : Nat), (10 : Nat), (21 : Nat), (15 : Nat))]
abbrev Q9_X0_greet (below : List Frame) (args : Array Value) (s : State) (G : hG) (K : Hp → Int32 → Prop) : State → Prop := MQ below (hx_Qi G K) args s 11 309 (hx_A G)
set_option maxHeartbeats 4000000 in
set_option maxRecDepth 100000 in
theorem wk_X0_greet (l : Launch) (hst : l.stackTraces = false) {G : hG} {w : Hp} {a0 : Nat} {x1 : Int32} {x2 : Int32} {a3 : Nat} {K : Hp → Int32 → Prop} (h : wp_X0_greet w a0 x1 x2 a3 K) : hx_Mi l yX0_greet (ws9_X0_greet) rm_X0_greet G w [.ref a0, .int x1, .int x2, .ref a3] K 11 309 := by
  refine va_MetW (cc := cX0_greet) (maxL := 5) (ret := (Option.some Jvm.ClassFile.FieldType.int)) (by decide +kernel) rfl ?_
  intro p e s m args below meth c s₁ B hml hv
  refine hx_in (own := RX0) (av := [.ref a0, .int x1, .int x2, .ref a3]) (vl := [(0, va_rf (some a0)), (1, .int x1), (2, .int x2), (3, va_rf (some a3))]) rfl rfl (Nat.le_of_ble_eq_true rfl) rfl B hml hv ?_
  intro C0 hU hH hr hlocks hin ls hl
  have hx := C0.1
  have hb := C0.2.1
  have hts := C0.2.2.2.2
  have htab := vx_table (x := yX0_greet) B (hts _ q759)
  refine hx_aload_n C0 dX0_greet_0 rfl (lv_at hl 3 rfl) ?_
  refine lv_iconst (v := 0) hx hb dX0_greet_1 (by decide) ?_
  refine hx_aload_n C0 dX0_greet_2 rfl (lv_at hl 0 rfl) ?_
  refine lv_iload_n hx hb dX0_greet_3 rfl (lv_at hl 1 rfl) ?_
  refine lv_iload_n hx hb dX0_greet_4 rfl (lv_at hl 2 rfl) ?_
  obtain ⟨ho, h⟩ := h
  refine hx_xVi C0 hU hH (As := [.int x1, .int x2]) (wk_X1_greet l hst h) (cwV 2 hts (lw_V q760 q761 q762 q60 q763) rfl rfl rfl (by decide +kernel) ⟨Nat.le_of_ble_eq_true rfl, Nat.le_of_ble_eq_true rfl⟩) (hx_recv hU hH (ci := 0) rfl ho) rfl hl.1 rfl (Nat.le_of_ble_eq_true rfl) dX0_greet_5 ⟨Nat.le_of_ble_eq_true rfl, Nat.le_of_ble_eq_true rfl⟩ (fun E ce q9 w H locs hH hXE h1 h2 h3 => ?_) (fun i_1 w H locs hH h => ?_)
  · rcases hXE with ⟨rfl, h⟩ | ⟨rfl, h⟩ | ⟨rfl, h⟩
    · refine vx_catch C0.2.2.2.1 (name := eIO) (tableOf []) ⟨0, 10, 13, 21⟩ (tableOf [(0, 10, 17, 13), (0, 10, 21, 15)]) (htab.trans rfl) (List.forall_mem_nil _) rfl (by decide) (hts _ q541) (va_Nw.use rfl (hU.2.2.1 _ q574 rfl)) h1 h2 h3 ?_
      refine hx_astore C0 dX0_greet_13 hl (by decide) (lv' := [(4, va_rf (some q9)), (0, va_rf (some a0)), (1, .int x1), (2, .int x2), (3, va_rf (some a3))]) rfl (fun ls hl => ?_)
      refine lv_iconst (v := 1) hx hb dX0_greet_15 (by decide) ?_
      exact hx_reti C0 hH hr hlocks h (Nat.le_of_ble_eq_true rfl) (Nat.le_of_ble_eq_true rfl) dX0_greet_16
    · refine vx_catch C0.2.2.2.1 (name := eIA) (tableOf [(0, 10, 13, 21)]) ⟨0, 10, 17, 13⟩ (tableOf [(0, 10, 21, 15)]) (htab.trans rfl) (List.forall_mem_cons.mpr ⟨Or.inr ⟨by decide, eIO, hts _ q541, hU.2.2.2.2.2.2.1 (eIA, eIO) (by decide)⟩, (List.forall_mem_nil _)⟩) rfl (by decide) (hts _ q490) (va_Nw.use rfl (hU.2.2.1 _ q498 rfl)) h1 h2 h3 ?_
      refine hx_astore C0 dX0_greet_17 hl (by decide) (lv' := [(4, va_rf (some q9)), (0, va_rf (some a0)), (1, .int x1), (2, .int x2), (3, va_rf (some a3))]) rfl (fun ls hl => ?_)
      refine lv_iconst (v := 2) hx hb dX0_greet_19 (by decide) ?_
      exact hx_reti C0 hH hr hlocks h (Nat.le_of_ble_eq_true rfl) (Nat.le_of_ble_eq_true rfl) dX0_greet_20
    · refine vx_catch C0.2.2.2.1 (name := eIS) (tableOf [(0, 10, 13, 21), (0, 10, 17, 13)]) ⟨0, 10, 21, 15⟩ (tableOf []) (htab.trans rfl) (List.forall_mem_cons.mpr ⟨Or.inr ⟨by decide, eIO, hts _ q541, hU.2.2.2.2.2.2.1 (eIS, eIO) (by decide)⟩, (List.forall_mem_cons.mpr ⟨Or.inr ⟨by decide, eIA, hts _ q490, hU.2.2.2.2.2.2.1 (eIS, eIA) (by decide)⟩, (List.forall_mem_nil _)⟩)⟩) rfl (by decide) (hts _ q491) (va_Nw.use rfl (hU.2.2.1 _ q524 rfl)) h1 h2 h3 ?_
      refine hx_astore C0 dX0_greet_21 hl (by decide) (lv' := [(4, va_rf (some q9)), (0, va_rf (some a0)), (1, .int x1), (2, .int x2), (3, va_rf (some a3))]) rfl (fun ls hl => ?_)
      refine lv_iconst (v := 3) hx hb dX0_greet_23 (by decide) ?_
      exact hx_reti C0 hH hr hlocks h (Nat.le_of_ble_eq_true rfl) (Nat.le_of_ble_eq_true rfl) dX0_greet_24
  refine lv_i2l hx hb dX0_greet_8 rfl ?_
  refine hx_sJ C0 hU hH h dX0_greet_9 (fun w H locs hH h => ?_)
  refine lv_goto hx hb dX0_greet_10 (tgt := 25) (by decide) ?_
  refine lv_iconst (v := 0) hx hb dX0_greet_25 (by decide) ?_
  exact hx_reti C0 hH hr hlocks h (Nat.le_of_ble_eq_true rfl) (Nat.le_of_ble_eq_true rfl) dX0_greet_26
def wp_X0_deliver (w : Hp) (a0 : Nat) (x1 : Int32) (a2 : Nat) (K : Hp → Int32 → Prop) : Prop :=
  isO w a0 0 <| wp_X1_deliver w a0 x1 (fun w E => (E = eIO ∧ (K w (1 : Int32)))) fun w i_1 => sJ w a2 (0 : Int32) (i_1.toInt64) fun w => K w (0 : Int32)
abbrev rm_X0_deliver : Room := { frames := 15, cells := 125, slots := 6690, locals := 444 }
abbrev ws9_X0_deliver : List Cond := wsW_ yX0_deliver cX0_deliver 4 (Option.some Jvm.ClassFile.FieldType.int) [((0 : Nat), (9 : Nat), (12 : Nat), (21 : Nat))]
abbrev Q9_X0_deliver (below : List Frame) (args : Array Value) (s : State) (G : hG) (K : Hp → Int32 → Prop) : State → Prop := MQ below (hx_Qi G K) args s 125 6690 (hx_A G)
set_option maxHeartbeats 4000000 in
set_option maxRecDepth 100000 in
theorem wk_X0_deliver (l : Launch) (hst : l.stackTraces = false) {G : hG} {w : Hp} {a0 : Nat} {x1 : Int32} {a2 : Nat} {K : Hp → Int32 → Prop} (h : wp_X0_deliver w a0 x1 a2 K) : hx_Mi l yX0_deliver (ws9_X0_deliver) rm_X0_deliver G w [.ref a0, .int x1, .ref a2] K 125 6690 := by
  refine va_MetW (cc := cX0_deliver) (maxL := 4) (ret := (Option.some Jvm.ClassFile.FieldType.int)) (by decide +kernel) rfl ?_
  intro p e s m args below meth c s₁ B hml hv
  refine hx_in (own := RX0) (av := [.ref a0, .int x1, .ref a2]) (vl := [(0, va_rf (some a0)), (1, .int x1), (2, va_rf (some a2))]) rfl rfl (Nat.le_of_ble_eq_true rfl) rfl B hml hv ?_
  intro C0 hU hH hr hlocks hin ls hl
  have hx := C0.1
  have hb := C0.2.1
  have hts := C0.2.2.2.2
  have htab := vx_table (x := yX0_deliver) B (hts _ q767)
  refine hx_aload_n C0 dX0_deliver_0 rfl (lv_at hl 2 rfl) ?_
  refine lv_iconst (v := 0) hx hb dX0_deliver_1 (by decide) ?_
  refine hx_aload_n C0 dX0_deliver_2 rfl (lv_at hl 0 rfl) ?_
  refine lv_iload_n hx hb dX0_deliver_3 rfl (lv_at hl 1 rfl) ?_
  obtain ⟨ho, h⟩ := h
  refine hx_xVi C0 hU hH (As := [.int x1]) (wk_X1_deliver l hst h) (cwV 1 hts (lw_V q768 q769 q770 q60 q771) rfl rfl rfl (by decide +kernel) ⟨Nat.le_of_ble_eq_true rfl, Nat.le_of_ble_eq_true rfl⟩) (hx_recv hU hH (ci := 0) rfl ho) rfl hl.1 rfl (Nat.le_of_ble_eq_true rfl) dX0_deliver_4 ⟨Nat.le_of_ble_eq_true rfl, Nat.le_of_ble_eq_true rfl⟩ (fun E ce q9 w H locs hH hXE h1 h2 h3 => ?_) (fun i_1 w H locs hH h => ?_)
  · obtain ⟨rfl, h⟩ := hXE
    refine vx_catch C0.2.2.2.1 (name := eIO) (tableOf []) ⟨0, 9, 12, 21⟩ (tableOf []) (htab.trans rfl) (List.forall_mem_nil _) rfl (by decide) (hts _ q541) (va_Nw.use rfl (hU.2.2.1 _ q574 rfl)) h1 h2 h3 ?_
    refine hx_astore_n C0 dX0_deliver_12 rfl hl (by decide) (lv' := [(3, va_rf (some q9)), (0, va_rf (some a0)), (1, .int x1), (2, va_rf (some a2))]) rfl (fun ls hl => ?_)
    refine lv_iconst (v := 1) hx hb dX0_deliver_13 (by decide) ?_
    exact hx_reti C0 hH hr hlocks h (Nat.le_of_ble_eq_true rfl) (Nat.le_of_ble_eq_true rfl) dX0_deliver_14
  refine lv_i2l hx hb dX0_deliver_7 rfl ?_
  refine hx_sJ C0 hU hH h dX0_deliver_8 (fun w H locs hH h => ?_)
  refine lv_goto hx hb dX0_deliver_9 (tgt := 15) (by decide) ?_
  refine lv_iconst (v := 0) hx hb dX0_deliver_15 (by decide) ?_
  exact hx_reti C0 hH hr hlocks h (Nat.le_of_ble_eq_true rfl) (Nat.le_of_ble_eq_true rfl) dX0_deliver_16
def wp_X0_lose (w : Hp) (a0 : Nat) (x1 : Int32) (a2 : Nat) (K : Hp → Int32 → Prop) : Prop :=
  isO w a0 0 <| wp_X1_lose w a0 x1 (fun w E => (E = eIO ∧ (K w (1 : Int32)))) fun w i_1 => sJ w a2 (0 : Int32) (i_1.toInt64) fun w => K w (0 : Int32)
abbrev rm_X0_lose : Room := { frames := 8, cells := 1, slots := 6, locals := 127 }
abbrev ws9_X0_lose : List Cond := wsW_ yX0_lose cX0_lose 4 (Option.some Jvm.ClassFile.FieldType.int) [((0 : Nat), (9 : Nat), (12 : Nat), (21 : Nat))]
abbrev Q9_X0_lose (below : List Frame) (args : Array Value) (s : State) (G : hG) (K : Hp → Int32 → Prop) : State → Prop := MQ below (hx_Qi G K) args s 1 6 (hx_A G)
set_option maxHeartbeats 4000000 in
set_option maxRecDepth 100000 in
theorem wk_X0_lose (l : Launch) (hst : l.stackTraces = false) {G : hG} {w : Hp} {a0 : Nat} {x1 : Int32} {a2 : Nat} {K : Hp → Int32 → Prop} (h : wp_X0_lose w a0 x1 a2 K) : hx_Mi l yX0_lose (ws9_X0_lose) rm_X0_lose G w [.ref a0, .int x1, .ref a2] K 1 6 := by
  refine va_MetW (cc := cX0_lose) (maxL := 4) (ret := (Option.some Jvm.ClassFile.FieldType.int)) (by decide +kernel) rfl ?_
  intro p e s m args below meth c s₁ B hml hv
  refine hx_in (own := RX0) (av := [.ref a0, .int x1, .ref a2]) (vl := [(0, va_rf (some a0)), (1, .int x1), (2, va_rf (some a2))]) rfl rfl (Nat.le_of_ble_eq_true rfl) rfl B hml hv ?_
  intro C0 hU hH hr hlocks hin ls hl
  have hx := C0.1
  have hb := C0.2.1
  have hts := C0.2.2.2.2
  have htab := vx_table (x := yX0_lose) B (hts _ q878)
  refine hx_aload_n C0 dX0_lose_0 rfl (lv_at hl 2 rfl) ?_
  refine lv_iconst (v := 0) hx hb dX0_lose_1 (by decide) ?_
  refine hx_aload_n C0 dX0_lose_2 rfl (lv_at hl 0 rfl) ?_
  refine lv_iload_n hx hb dX0_lose_3 rfl (lv_at hl 1 rfl) ?_
  obtain ⟨ho, h⟩ := h
  refine hx_xVi C0 hU hH (As := [.int x1]) (wk_X1_lose l hst h) (cwV 1 hts (lw_V q879 q880 q881 q60 q882) rfl rfl rfl (by decide +kernel) ⟨Nat.le_of_ble_eq_true rfl, Nat.le_of_ble_eq_true rfl⟩) (hx_recv hU hH (ci := 0) rfl ho) rfl hl.1 rfl (Nat.le_of_ble_eq_true rfl) dX0_lose_4 ⟨Nat.le_of_ble_eq_true rfl, Nat.le_of_ble_eq_true rfl⟩ (fun E ce q9 w H locs hH hXE h1 h2 h3 => ?_) (fun i_1 w H locs hH h => ?_)
  · obtain ⟨rfl, h⟩ := hXE
    refine vx_catch C0.2.2.2.1 (name := eIO) (tableOf []) ⟨0, 9, 12, 21⟩ (tableOf []) (htab.trans rfl) (List.forall_mem_nil _) rfl (by decide) (hts _ q541) (va_Nw.use rfl (hU.2.2.1 _ q574 rfl)) h1 h2 h3 ?_
    refine hx_astore_n C0 dX0_lose_12 rfl hl (by decide) (lv' := [(3, va_rf (some q9)), (0, va_rf (some a0)), (1, .int x1), (2, va_rf (some a2))]) rfl (fun ls hl => ?_)
    refine lv_iconst (v := 1) hx hb dX0_lose_13 (by decide) ?_
    exact hx_reti C0 hH hr hlocks h (Nat.le_of_ble_eq_true rfl) (Nat.le_of_ble_eq_true rfl) dX0_lose_14
  refine lv_i2l hx hb dX0_lose_7 rfl ?_
  refine hx_sJ C0 hU hH h dX0_lose_8 (fun w H locs hH h => ?_)
  refine lv_goto hx hb dX0_lose_9 (tgt := 15) (by decide) ?_
  refine lv_iconst (v := 0) hx hb dX0_lose_15 (by decide) ?_
  exact hx_reti C0 hH hr hlocks h (Nat.le_of_ble_eq_true rfl) (Nat.le_of_ble_eq_true rfl) dX0_lose_16
def wp_X0_twice (w : Hp) (a0 : Nat) (x1 : Int32) (a2 : Nat) (K : Hp → Int32 → Prop) : Prop :=
  isO w a0 0 <| wp_X1_twice w a0 x1 (fun w E => (E = eIO ∧ (K w (1 : Int32))) ∨ (E = eIS ∧ (K w (2 : Int32)))) fun w i_1 => sJ w a2 (0 : Int32) (i_1.toInt64) fun w => K w (0 : Int32)
abbrev rm_X0_twice : Room := { frames := 9, cells := 4, slots := 275, locals := 289 }
abbrev ws9_X0_twice : List Cond := wsW_ yX0_twice cX0_twice 4 (Option.some Jvm.ClassFile.FieldType.int) [((0 : Nat), (9 : Nat), (12 : Nat), (21 : Nat)), ((0 : Nat), (9 : Nat), (15 : Nat), (15 : Nat))]
abbrev Q9_X0_twice (below : List Frame) (args : Array Value) (s : State) (G : hG) (K : Hp → Int32 → Prop) : State → Prop := MQ below (hx_Qi G K) args s 4 275 (hx_A G)
set_option maxHeartbeats 4000000 in
set_option maxRecDepth 100000 in
theorem wk_X0_twice (l : Launch) (hst : l.stackTraces = false) {G : hG} {w : Hp} {a0 : Nat} {x1 : Int32} {a2 : Nat} {K : Hp → Int32 → Prop} (h : wp_X0_twice w a0 x1 a2 K) : hx_Mi l yX0_twice (ws9_X0_twice) rm_X0_twice G w [.ref a0, .int x1, .ref a2] K 4 275 := by
  refine va_MetW (cc := cX0_twice) (maxL := 4) (ret := (Option.some Jvm.ClassFile.FieldType.int)) (by decide +kernel) rfl ?_
  intro p e s m args below meth c s₁ B hml hv
  refine hx_in (own := RX0) (av := [.ref a0, .int x1, .ref a2]) (vl := [(0, va_rf (some a0)), (1, .int x1), (2, va_rf (some a2))]) rfl rfl (Nat.le_of_ble_eq_true rfl) rfl B hml hv ?_
  intro C0 hU hH hr hlocks hin ls hl
  have hx := C0.1
  have hb := C0.2.1
  have hts := C0.2.2.2.2
  have htab := vx_table (x := yX0_twice) B (hts _ q885)
  refine hx_aload_n C0 dX0_twice_0 rfl (lv_at hl 2 rfl) ?_
  refine lv_iconst (v := 0) hx hb dX0_twice_1 (by decide) ?_
  refine hx_aload_n C0 dX0_twice_2 rfl (lv_at hl 0 rfl) ?_
  refine lv_iload_n hx hb dX0_twice_3 rfl (lv_at hl 1 rfl) ?_
  obtain ⟨ho, h⟩ := h
  refine hx_xVi C0 hU hH (As := [.int x1]) (wk_X1_twice l hst h) (cwV 1 hts (lw_V q886 q887 q888 q60 q889) rfl rfl rfl (by decide +kernel) ⟨Nat.le_of_ble_eq_true rfl, Nat.le_of_ble_eq_true rfl⟩) (hx_recv hU hH (ci := 0) rfl ho) rfl hl.1 rfl (Nat.le_of_ble_eq_true rfl) dX0_twice_4 ⟨Nat.le_of_ble_eq_true rfl, Nat.le_of_ble_eq_true rfl⟩ (fun E ce q9 w H locs hH hXE h1 h2 h3 => ?_) (fun i_1 w H locs hH h => ?_)
  · rcases hXE with ⟨rfl, h⟩ | ⟨rfl, h⟩
    · refine vx_catch C0.2.2.2.1 (name := eIO) (tableOf []) ⟨0, 9, 12, 21⟩ (tableOf [(0, 9, 15, 15)]) (htab.trans rfl) (List.forall_mem_nil _) rfl (by decide) (hts _ q541) (va_Nw.use rfl (hU.2.2.1 _ q574 rfl)) h1 h2 h3 ?_
      refine hx_astore_n C0 dX0_twice_12 rfl hl (by decide) (lv' := [(3, va_rf (some q9)), (0, va_rf (some a0)), (1, .int x1), (2, va_rf (some a2))]) rfl (fun ls hl => ?_)
      refine lv_iconst (v := 1) hx hb dX0_twice_13 (by decide) ?_
      exact hx_reti C0 hH hr hlocks h (Nat.le_of_ble_eq_true rfl) (Nat.le_of_ble_eq_true rfl) dX0_twice_14
    · refine vx_catch C0.2.2.2.1 (name := eIS) (tableOf [(0, 9, 12, 21)]) ⟨0, 9, 15, 15⟩ (tableOf []) (htab.trans rfl) (List.forall_mem_cons.mpr ⟨Or.inr ⟨by decide, eIO, hts _ q541, hU.2.2.2.2.2.2.1 (eIS, eIO) (by decide)⟩, (List.forall_mem_nil _)⟩) rfl (by decide) (hts _ q491) (va_Nw.use rfl (hU.2.2.1 _ q524 rfl)) h1 h2 h3 ?_
      refine hx_astore_n C0 dX0_twice_15 rfl hl (by decide) (lv' := [(3, va_rf (some q9)), (0, va_rf (some a0)), (1, .int x1), (2, va_rf (some a2))]) rfl (fun ls hl => ?_)
      refine lv_iconst (v := 2) hx hb dX0_twice_16 (by decide) ?_
      exact hx_reti C0 hH hr hlocks h (Nat.le_of_ble_eq_true rfl) (Nat.le_of_ble_eq_true rfl) dX0_twice_17
  refine lv_i2l hx hb dX0_twice_7 rfl ?_
  refine hx_sJ C0 hU hH h dX0_twice_8 (fun w H locs hH h => ?_)
  refine lv_goto hx hb dX0_twice_9 (tgt := 18) (by decide) ?_
  refine lv_iconst (v := 0) hx hb dX0_twice_18 (by decide) ?_
  exact hx_reti C0 hH hr hlocks h (Nat.le_of_ble_eq_true rfl) (Nat.le_of_ble_eq_true rfl) dX0_twice_19
def wp_X0_turn (w : Hp) (a0 : Nat) (x1 : Int32) (x2 : Int32) (x3 : Int32) (a4 : Nat) (K : Hp → Int32 → Prop) : Prop :=
  isO w a0 0 <| wp_X1_turn w a0 x1 x2 x3 (fun w E => (E = eIO ∧ (K w (1 : Int32))) ∨ (E = eIA ∧ (K w (2 : Int32))) ∨ (E = eIS ∧ (K w (3 : Int32)))) fun w i_1 => sJ w a4 (0 : Int32) (i_1.toInt64) fun w => K w (0 : Int32)
abbrev rm_X0_turn : Room := { frames := 8, cells := 2, slots := 12, locals := 127 }
abbrev ws9_X0_turn : List Cond := wsW_ yX0_turn cX0_turn 6 (Option.some Jvm.ClassFile.FieldType.int) [((0 : Nat), (12 : Nat), (15 : Nat), (21 : Nat)), ((0 : Nat), (12 : Nat), (19 : Nat), (13 : Nat)), ((0 : Nat), (12 : Nat), (23 : Nat), (15 : Nat))]
abbrev Q9_X0_turn (below : List Frame) (args : Array Value) (s : State) (G : hG) (K : Hp → Int32 → Prop) : State → Prop := MQ below (hx_Qi G K) args s 2 12 (hx_A G)
set_option maxHeartbeats 4000000 in
set_option maxRecDepth 100000 in
theorem wk_X0_turn (l : Launch) (hst : l.stackTraces = false) {G : hG} {w : Hp} {a0 : Nat} {x1 : Int32} {x2 : Int32} {x3 : Int32} {a4 : Nat} {K : Hp → Int32 → Prop} (h : wp_X0_turn w a0 x1 x2 x3 a4 K) : hx_Mi l yX0_turn (ws9_X0_turn) rm_X0_turn G w [.ref a0, .int x1, .int x2, .int x3, .ref a4] K 2 12 := by
  refine va_MetW (cc := cX0_turn) (maxL := 6) (ret := (Option.some Jvm.ClassFile.FieldType.int)) (by decide +kernel) rfl ?_
  intro p e s m args below meth c s₁ B hml hv
  refine hx_in (own := RX0) (av := [.ref a0, .int x1, .int x2, .int x3, .ref a4]) (vl := [(0, va_rf (some a0)), (1, .int x1), (2, .int x2), (3, .int x3), (4, va_rf (some a4))]) rfl rfl (Nat.le_of_ble_eq_true rfl) rfl B hml hv ?_
  intro C0 hU hH hr hlocks hin ls hl
  have hx := C0.1
  have hb := C0.2.1
  have hts := C0.2.2.2.2
  have htab := vx_table (x := yX0_turn) B (hts _ q896)
  refine hx_aload C0 dX0_turn_0 (lv_at hl 4 rfl) ?_
  refine lv_iconst (v := 0) hx hb dX0_turn_2 (by decide) ?_
  refine hx_aload_n C0 dX0_turn_3 rfl (lv_at hl 0 rfl) ?_
  refine lv_iload_n hx hb dX0_turn_4 rfl (lv_at hl 1 rfl) ?_
  refine lv_iload_n hx hb dX0_turn_5 rfl (lv_at hl 2 rfl) ?_
  refine lv_iload_n hx hb dX0_turn_6 rfl (lv_at hl 3 rfl) ?_
  obtain ⟨ho, h⟩ := h
  refine hx_xVi C0 hU hH (As := [.int x1, .int x2, .int x3]) (wk_X1_turn l hst h) (cwV 3 hts (lw_V q897 q898 q899 q60 q900) rfl rfl rfl (by decide +kernel) ⟨Nat.le_of_ble_eq_true rfl, Nat.le_of_ble_eq_true rfl⟩) (hx_recv hU hH (ci := 0) rfl ho) rfl hl.1 rfl (Nat.le_of_ble_eq_true rfl) dX0_turn_7 ⟨Nat.le_of_ble_eq_true rfl, Nat.le_of_ble_eq_true rfl⟩ (fun E ce q9 w H locs hH hXE h1 h2 h3 => ?_) (fun i_1 w H locs hH h => ?_)
  · rcases hXE with ⟨rfl, h⟩ | ⟨rfl, h⟩ | ⟨rfl, h⟩
    · refine vx_catch C0.2.2.2.1 (name := eIO) (tableOf []) ⟨0, 12, 15, 21⟩ (tableOf [(0, 12, 19, 13), (0, 12, 23, 15)]) (htab.trans rfl) (List.forall_mem_nil _) rfl (by decide) (hts _ q541) (va_Nw.use rfl (hU.2.2.1 _ q574 rfl)) h1 h2 h3 ?_
      refine hx_astore C0 dX0_turn_15 hl (by decide) (lv' := [(5, va_rf (some q9)), (0, va_rf (some a0)), (1, .int x1), (2, .int x2), (3, .int x3), (4, va_rf (some a4))]) rfl (fun ls hl => ?_)
      refine lv_iconst (v := 1) hx hb dX0_turn_17 (by decide) ?_
      exact hx_reti C0 hH hr hlocks h (Nat.le_of_ble_eq_true rfl) (Nat.le_of_ble_eq_true rfl) dX0_turn_18
    · refine vx_catch C0.2.2.2.1 (name := eIA) (tableOf [(0, 12, 15, 21)]) ⟨0, 12, 19, 13⟩ (tableOf [(0, 12, 23, 15)]) (htab.trans rfl) (List.forall_mem_cons.mpr ⟨Or.inr ⟨by decide, eIO, hts _ q541, hU.2.2.2.2.2.2.1 (eIA, eIO) (by decide)⟩, (List.forall_mem_nil _)⟩) rfl (by decide) (hts _ q490) (va_Nw.use rfl (hU.2.2.1 _ q498 rfl)) h1 h2 h3 ?_
      refine hx_astore C0 dX0_turn_19 hl (by decide) (lv' := [(5, va_rf (some q9)), (0, va_rf (some a0)), (1, .int x1), (2, .int x2), (3, .int x3), (4, va_rf (some a4))]) rfl (fun ls hl => ?_)
      refine lv_iconst (v := 2) hx hb dX0_turn_21 (by decide) ?_
      exact hx_reti C0 hH hr hlocks h (Nat.le_of_ble_eq_true rfl) (Nat.le_of_ble_eq_true rfl) dX0_turn_22
    · refine vx_catch C0.2.2.2.1 (name := eIS) (tableOf [(0, 12, 15, 21), (0, 12, 19, 13)]) ⟨0, 12, 23, 15⟩ (tableOf []) (htab.trans rfl) (List.forall_mem_cons.mpr ⟨Or.inr ⟨by decide, eIO, hts _ q541, hU.2.2.2.2.2.2.1 (eIS, eIO) (by decide)⟩, (List.forall_mem_cons.mpr ⟨Or.inr ⟨by decide, eIA, hts _ q490, hU.2.2.2.2.2.2.1 (eIS, eIA) (by decide)⟩, (List.forall_mem_nil _)⟩)⟩) rfl (by decide) (hts _ q491) (va_Nw.use rfl (hU.2.2.1 _ q524 rfl)) h1 h2 h3 ?_
      refine hx_astore C0 dX0_turn_23 hl (by decide) (lv' := [(5, va_rf (some q9)), (0, va_rf (some a0)), (1, .int x1), (2, .int x2), (3, .int x3), (4, va_rf (some a4))]) rfl (fun ls hl => ?_)
      refine lv_iconst (v := 3) hx hb dX0_turn_25 (by decide) ?_
      exact hx_reti C0 hH hr hlocks h (Nat.le_of_ble_eq_true rfl) (Nat.le_of_ble_eq_true rfl) dX0_turn_26
  refine lv_i2l hx hb dX0_turn_10 rfl ?_
  refine hx_sJ C0 hU hH h dX0_turn_11 (fun w H locs hH h => ?_)
  refine lv_goto hx hb dX0_turn_12 (tgt := 27) (by decide) ?_
  refine lv_iconst (v := 0) hx hb dX0_turn_27 (by decide) ?_
  exact hx_reti C0 hH hr hlocks h (Nat.le_of_ble_eq_true rfl) (Nat.le_of_ble_eq_true rfl) dX0_turn_28
def wp_X0_reroute (w : Hp) (a0 : Nat) (x1 : Int32) (x2 : Int32) (a3 : Nat) (K : Hp → Int32 → Prop) : Prop :=
  isO w a0 0 <| wp_X1_reroute w a0 x1 x2 (fun w E => (E = eIO ∧ (K w (1 : Int32))) ∨ (E = eIA ∧ (K w (2 : Int32)))) fun w i_1 => sJ w a3 (0 : Int32) (i_1.toInt64) fun w => K w (0 : Int32)
abbrev rm_X0_reroute : Room := { frames := 8, cells := 2, slots := 12, locals := 127 }
abbrev ws9_X0_reroute : List Cond := wsW_ yX0_reroute cX0_reroute 5 (Option.some Jvm.ClassFile.FieldType.int) [((0 : Nat), (10 : Nat), (13 : Nat), (21 : Nat)), ((0 : Nat), (10 : Nat), (17 : Nat), (13 : Nat))]
abbrev Q9_X0_reroute (below : List Frame) (args : Array Value) (s : State) (G : hG) (K : Hp → Int32 → Prop) : State → Prop := MQ below (hx_Qi G K) args s 2 12 (hx_A G)
set_option maxHeartbeats 4000000 in
set_option maxRecDepth 100000 in
theorem wk_X0_reroute (l : Launch) (hst : l.stackTraces = false) {G : hG} {w : Hp} {a0 : Nat} {x1 : Int32} {x2 : Int32} {a3 : Nat} {K : Hp → Int32 → Prop} (h : wp_X0_reroute w a0 x1 x2 a3 K) : hx_Mi l yX0_reroute (ws9_X0_reroute) rm_X0_reroute G w [.ref a0, .int x1, .int x2, .ref a3] K 2 12 := by
  refine va_MetW (cc := cX0_reroute) (maxL := 5) (ret := (Option.some Jvm.ClassFile.FieldType.int)) (by decide +kernel) rfl ?_
  intro p e s m args below meth c s₁ B hml hv
  refine hx_in (own := RX0) (av := [.ref a0, .int x1, .int x2, .ref a3]) (vl := [(0, va_rf (some a0)), (1, .int x1), (2, .int x2), (3, va_rf (some a3))]) rfl rfl (Nat.le_of_ble_eq_true rfl) rfl B hml hv ?_
  intro C0 hU hH hr hlocks hin ls hl
  have hx := C0.1
  have hb := C0.2.1
  have hts := C0.2.2.2.2
  have htab := vx_table (x := yX0_reroute) B (hts _ q912)
  refine hx_aload_n C0 dX0_reroute_0 rfl (lv_at hl 3 rfl) ?_
  refine lv_iconst (v := 0) hx hb dX0_reroute_1 (by decide) ?_
  refine hx_aload_n C0 dX0_reroute_2 rfl (lv_at hl 0 rfl) ?_
  refine lv_iload_n hx hb dX0_reroute_3 rfl (lv_at hl 1 rfl) ?_
  refine lv_iload_n hx hb dX0_reroute_4 rfl (lv_at hl 2 rfl) ?_
  obtain ⟨ho, h⟩ := h
  refine hx_xVi C0 hU hH (As := [.int x1, .int x2]) (wk_X1_reroute l hst h) (cwV 2 hts (lw_V q913 q914 q915 q60 q916) rfl rfl rfl (by decide +kernel) ⟨Nat.le_of_ble_eq_true rfl, Nat.le_of_ble_eq_true rfl⟩) (hx_recv hU hH (ci := 0) rfl ho) rfl hl.1 rfl (Nat.le_of_ble_eq_true rfl) dX0_reroute_5 ⟨Nat.le_of_ble_eq_true rfl, Nat.le_of_ble_eq_true rfl⟩ (fun E ce q9 w H locs hH hXE h1 h2 h3 => ?_) (fun i_1 w H locs hH h => ?_)
  · rcases hXE with ⟨rfl, h⟩ | ⟨rfl, h⟩
    · refine vx_catch C0.2.2.2.1 (name := eIO) (tableOf []) ⟨0, 10, 13, 21⟩ (tableOf [(0, 10, 17, 13)]) (htab.trans rfl) (List.forall_mem_nil _) rfl (by decide) (hts _ q541) (va_Nw.use rfl (hU.2.2.1 _ q574 rfl)) h1 h2 h3 ?_
      refine hx_astore C0 dX0_reroute_13 hl (by decide) (lv' := [(4, va_rf (some q9)), (0, va_rf (some a0)), (1, .int x1), (2, .int x2), (3, va_rf (some a3))]) rfl (fun ls hl => ?_)
      refine lv_iconst (v := 1) hx hb dX0_reroute_15 (by decide) ?_
      exact hx_reti C0 hH hr hlocks h (Nat.le_of_ble_eq_true rfl) (Nat.le_of_ble_eq_true rfl) dX0_reroute_16
    · refine vx_catch C0.2.2.2.1 (name := eIA) (tableOf [(0, 10, 13, 21)]) ⟨0, 10, 17, 13⟩ (tableOf []) (htab.trans rfl) (List.forall_mem_cons.mpr ⟨Or.inr ⟨by decide, eIO, hts _ q541, hU.2.2.2.2.2.2.1 (eIA, eIO) (by decide)⟩, (List.forall_mem_nil _)⟩) rfl (by decide) (hts _ q490) (va_Nw.use rfl (hU.2.2.1 _ q498 rfl)) h1 h2 h3 ?_
      refine hx_astore C0 dX0_reroute_17 hl (by decide) (lv' := [(4, va_rf (some q9)), (0, va_rf (some a0)), (1, .int x1), (2, .int x2), (3, va_rf (some a3))]) rfl (fun ls hl => ?_)
      refine lv_iconst (v := 2) hx hb dX0_reroute_19 (by decide) ?_
      exact hx_reti C0 hH hr hlocks h (Nat.le_of_ble_eq_true rfl) (Nat.le_of_ble_eq_true rfl) dX0_reroute_20
  refine lv_i2l hx hb dX0_reroute_8 rfl ?_
  refine hx_sJ C0 hU hH h dX0_reroute_9 (fun w H locs hH h => ?_)
  refine lv_goto hx hb dX0_reroute_10 (tgt := 21) (by decide) ?_
  refine lv_iconst (v := 0) hx hb dX0_reroute_21 (by decide) ?_
  exact hx_reti C0 hH hr hlocks h (Nat.le_of_ble_eq_true rfl) (Nat.le_of_ble_eq_true rfl) dX0_reroute_22
def wp_X0_later (w : Hp) (a0 : Nat) (x1 : Int32) (a2 : Nat) (K : Hp → Int32 → Prop) : Prop :=
  isO w a0 0 <| wp_X1_later w a0 x1 (fun w E => (E = eIO ∧ (K w (1 : Int32)))) fun w i_1 => sJ w a2 (0 : Int32) (i_1.toInt64) fun w => K w (0 : Int32)
abbrev rm_X0_later : Room := { frames := 9, cells := 2, slots := 262, locals := 289 }
abbrev ws9_X0_later : List Cond := wsW_ yX0_later cX0_later 4 (Option.some Jvm.ClassFile.FieldType.int) [((0 : Nat), (9 : Nat), (12 : Nat), (21 : Nat))]
abbrev Q9_X0_later (below : List Frame) (args : Array Value) (s : State) (G : hG) (K : Hp → Int32 → Prop) : State → Prop := MQ below (hx_Qi G K) args s 2 262 (hx_A G)
set_option maxHeartbeats 4000000 in
set_option maxRecDepth 100000 in
theorem wk_X0_later (l : Launch) (hst : l.stackTraces = false) {G : hG} {w : Hp} {a0 : Nat} {x1 : Int32} {a2 : Nat} {K : Hp → Int32 → Prop} (h : wp_X0_later w a0 x1 a2 K) : hx_Mi l yX0_later (ws9_X0_later) rm_X0_later G w [.ref a0, .int x1, .ref a2] K 2 262 := by
  refine va_MetW (cc := cX0_later) (maxL := 4) (ret := (Option.some Jvm.ClassFile.FieldType.int)) (by decide +kernel) rfl ?_
  intro p e s m args below meth c s₁ B hml hv
  refine hx_in (own := RX0) (av := [.ref a0, .int x1, .ref a2]) (vl := [(0, va_rf (some a0)), (1, .int x1), (2, va_rf (some a2))]) rfl rfl (Nat.le_of_ble_eq_true rfl) rfl B hml hv ?_
  intro C0 hU hH hr hlocks hin ls hl
  have hx := C0.1
  have hb := C0.2.1
  have hts := C0.2.2.2.2
  have htab := vx_table (x := yX0_later) B (hts _ q919)
  refine hx_aload_n C0 dX0_later_0 rfl (lv_at hl 2 rfl) ?_
  refine lv_iconst (v := 0) hx hb dX0_later_1 (by decide) ?_
  refine hx_aload_n C0 dX0_later_2 rfl (lv_at hl 0 rfl) ?_
  refine lv_iload_n hx hb dX0_later_3 rfl (lv_at hl 1 rfl) ?_
  obtain ⟨ho, h⟩ := h
  refine hx_xVi C0 hU hH (As := [.int x1]) (wk_X1_later l hst h) (cwV 1 hts (lw_V q920 q921 q922 q60 q923) rfl rfl rfl (by decide +kernel) ⟨Nat.le_of_ble_eq_true rfl, Nat.le_of_ble_eq_true rfl⟩) (hx_recv hU hH (ci := 0) rfl ho) rfl hl.1 rfl (Nat.le_of_ble_eq_true rfl) dX0_later_4 ⟨Nat.le_of_ble_eq_true rfl, Nat.le_of_ble_eq_true rfl⟩ (fun E ce q9 w H locs hH hXE h1 h2 h3 => ?_) (fun i_1 w H locs hH h => ?_)
  · obtain ⟨rfl, h⟩ := hXE
    refine vx_catch C0.2.2.2.1 (name := eIO) (tableOf []) ⟨0, 9, 12, 21⟩ (tableOf []) (htab.trans rfl) (List.forall_mem_nil _) rfl (by decide) (hts _ q541) (va_Nw.use rfl (hU.2.2.1 _ q574 rfl)) h1 h2 h3 ?_
    refine hx_astore_n C0 dX0_later_12 rfl hl (by decide) (lv' := [(3, va_rf (some q9)), (0, va_rf (some a0)), (1, .int x1), (2, va_rf (some a2))]) rfl (fun ls hl => ?_)
    refine lv_iconst (v := 1) hx hb dX0_later_13 (by decide) ?_
    exact hx_reti C0 hH hr hlocks h (Nat.le_of_ble_eq_true rfl) (Nat.le_of_ble_eq_true rfl) dX0_later_14
  refine lv_i2l hx hb dX0_later_7 rfl ?_
  refine hx_sJ C0 hU hH h dX0_later_8 (fun w H locs hH h => ?_)
  refine lv_goto hx hb dX0_later_9 (tgt := 15) (by decide) ?_
  refine lv_iconst (v := 0) hx hb dX0_later_15 (by decide) ?_
  exact hx_reti C0 hH hr hlocks h (Nat.le_of_ble_eq_true rfl) (Nat.le_of_ble_eq_true rfl) dX0_later_16
def wp_X0_letter (w : Hp) (a0 : Nat) (x1 : Int32) (x2 : Int32) (a3 : Nat) (K : Hp → Int32 → Prop) : Prop :=
  isO w a0 0 <| wp_X1_letter w a0 x1 x2 (fun w E => (E = eIO ∧ (K w (1 : Int32))) ∨ (E = eIA ∧ (K w (2 : Int32)))) fun w i_1 => sJ w a3 (0 : Int32) (i_1.toInt64) fun w => K w (0 : Int32)
abbrev rm_X0_letter : Room := { frames := 8, cells := 2, slots := 12, locals := 125 }
abbrev ws9_X0_letter : List Cond := wsW_ yX0_letter cX0_letter 5 (Option.some Jvm.ClassFile.FieldType.int) [((0 : Nat), (10 : Nat), (13 : Nat), (21 : Nat)), ((0 : Nat), (10 : Nat), (17 : Nat), (13 : Nat))]
abbrev Q9_X0_letter (below : List Frame) (args : Array Value) (s : State) (G : hG) (K : Hp → Int32 → Prop) : State → Prop := MQ below (hx_Qi G K) args s 2 12 (hx_A G)
set_option maxHeartbeats 4000000 in
set_option maxRecDepth 100000 in
theorem wk_X0_letter (l : Launch) (hst : l.stackTraces = false) {G : hG} {w : Hp} {a0 : Nat} {x1 : Int32} {x2 : Int32} {a3 : Nat} {K : Hp → Int32 → Prop} (h : wp_X0_letter w a0 x1 x2 a3 K) : hx_Mi l yX0_letter (ws9_X0_letter) rm_X0_letter G w [.ref a0, .int x1, .int x2, .ref a3] K 2 12 := by
  refine va_MetW (cc := cX0_letter) (maxL := 5) (ret := (Option.some Jvm.ClassFile.FieldType.int)) (by decide +kernel) rfl ?_
  intro p e s m args below meth c s₁ B hml hv
  refine hx_in (own := RX0) (av := [.ref a0, .int x1, .int x2, .ref a3]) (vl := [(0, va_rf (some a0)), (1, .int x1), (2, .int x2), (3, va_rf (some a3))]) rfl rfl (Nat.le_of_ble_eq_true rfl) rfl B hml hv ?_
  intro C0 hU hH hr hlocks hin ls hl
  have hx := C0.1
  have hb := C0.2.1
  have hts := C0.2.2.2.2
  have htab := vx_table (x := yX0_letter) B (hts _ q926)
  refine hx_aload_n C0 dX0_letter_0 rfl (lv_at hl 3 rfl) ?_
  refine lv_iconst (v := 0) hx hb dX0_letter_1 (by decide) ?_
  refine hx_aload_n C0 dX0_letter_2 rfl (lv_at hl 0 rfl) ?_
  refine lv_iload_n hx hb dX0_letter_3 rfl (lv_at hl 1 rfl) ?_
  refine lv_iload_n hx hb dX0_letter_4 rfl (lv_at hl 2 rfl) ?_
  obtain ⟨ho, h⟩ := h
  refine hx_xVi C0 hU hH (As := [.int x1, .int x2]) (wk_X1_letter l hst h) (cwV 2 hts (lw_V q927 q928 q929 q60 q930) rfl rfl rfl (by decide +kernel) ⟨Nat.le_of_ble_eq_true rfl, Nat.le_of_ble_eq_true rfl⟩) (hx_recv hU hH (ci := 0) rfl ho) rfl hl.1 rfl (Nat.le_of_ble_eq_true rfl) dX0_letter_5 ⟨Nat.le_of_ble_eq_true rfl, Nat.le_of_ble_eq_true rfl⟩ (fun E ce q9 w H locs hH hXE h1 h2 h3 => ?_) (fun i_1 w H locs hH h => ?_)
  · rcases hXE with ⟨rfl, h⟩ | ⟨rfl, h⟩
    · refine vx_catch C0.2.2.2.1 (name := eIO) (tableOf []) ⟨0, 10, 13, 21⟩ (tableOf [(0, 10, 17, 13)]) (htab.trans rfl) (List.forall_mem_nil _) rfl (by decide) (hts _ q541) (va_Nw.use rfl (hU.2.2.1 _ q574 rfl)) h1 h2 h3 ?_
      refine hx_astore C0 dX0_letter_13 hl (by decide) (lv' := [(4, va_rf (some q9)), (0, va_rf (some a0)), (1, .int x1), (2, .int x2), (3, va_rf (some a3))]) rfl (fun ls hl => ?_)
      refine lv_iconst (v := 1) hx hb dX0_letter_15 (by decide) ?_
      exact hx_reti C0 hH hr hlocks h (Nat.le_of_ble_eq_true rfl) (Nat.le_of_ble_eq_true rfl) dX0_letter_16
    · refine vx_catch C0.2.2.2.1 (name := eIA) (tableOf [(0, 10, 13, 21)]) ⟨0, 10, 17, 13⟩ (tableOf []) (htab.trans rfl) (List.forall_mem_cons.mpr ⟨Or.inr ⟨by decide, eIO, hts _ q541, hU.2.2.2.2.2.2.1 (eIA, eIO) (by decide)⟩, (List.forall_mem_nil _)⟩) rfl (by decide) (hts _ q490) (va_Nw.use rfl (hU.2.2.1 _ q498 rfl)) h1 h2 h3 ?_
      refine hx_astore C0 dX0_letter_17 hl (by decide) (lv' := [(4, va_rf (some q9)), (0, va_rf (some a0)), (1, .int x1), (2, .int x2), (3, va_rf (some a3))]) rfl (fun ls hl => ?_)
      refine lv_iconst (v := 2) hx hb dX0_letter_19 (by decide) ?_
      exact hx_reti C0 hH hr hlocks h (Nat.le_of_ble_eq_true rfl) (Nat.le_of_ble_eq_true rfl) dX0_letter_20
  refine lv_i2l hx hb dX0_letter_8 rfl ?_
  refine hx_sJ C0 hU hH h dX0_letter_9 (fun w H locs hH h => ?_)
  refine lv_goto hx hb dX0_letter_10 (tgt := 21) (by decide) ?_
  refine lv_iconst (v := 0) hx hb dX0_letter_21 (by decide) ?_
  exact hx_reti C0 hH hr hlocks h (Nat.le_of_ble_eq_true rfl) (Nat.le_of_ble_eq_true rfl) dX0_letter_22
def wp_X0_isTurned_b15 (K : Hp → Int32 → Prop)  (w : Hp) (t0 : Int64) (t1 : Int32) (at2 : Nat) : Prop :=
  sJ w at2 t1 t0 fun w => K w (0 : Int32)
def wp_X0_isTurned (w : Hp) (a0 : Nat) (x1 : Int32) (a2 : Nat) (K : Hp → Int32 → Prop) : Prop :=
  isO w a0 0 <| wp_X1_isTurned w a0 x1 (fun w E => (E = eIO ∧ (K w (1 : Int32)))) fun w i_1 => br (i_1 = 0) (wp_X0_isTurned_b15 K w (0 : Int64) (0 : Int32) a2) (wp_X0_isTurned_b15 K w (1 : Int64) (0 : Int32) a2)
abbrev rm_X0_isTurned : Room := { frames := 8, cells := 1, slots := 6, locals := 124 }
abbrev ws9_X0_isTurned : List Cond := wsW_ yX0_isTurned cX0_isTurned 4 (Option.some Jvm.ClassFile.FieldType.int) [((0 : Nat), (16 : Nat), (19 : Nat), (21 : Nat))]
abbrev Q9_X0_isTurned (below : List Frame) (args : Array Value) (s : State) (G : hG) (K : Hp → Int32 → Prop) : State → Prop := MQ below (hx_Qi G K) args s 1 6 (hx_A G)
set_option maxHeartbeats 4000000 in
set_option maxRecDepth 100000 in
theorem wk_X0_isTurned (l : Launch) (hst : l.stackTraces = false) {G : hG} {w : Hp} {a0 : Nat} {x1 : Int32} {a2 : Nat} {K : Hp → Int32 → Prop} (h : wp_X0_isTurned w a0 x1 a2 K) : hx_Mi l yX0_isTurned (ws9_X0_isTurned) rm_X0_isTurned G w [.ref a0, .int x1, .ref a2] K 1 6 := by
  refine va_MetW (cc := cX0_isTurned) (maxL := 4) (ret := (Option.some Jvm.ClassFile.FieldType.int)) (by decide +kernel) rfl ?_
  intro p e s m args below meth c s₁ B hml hv
  refine hx_in (own := RX0) (av := [.ref a0, .int x1, .ref a2]) (vl := [(0, va_rf (some a0)), (1, .int x1), (2, va_rf (some a2))]) rfl rfl (Nat.le_of_ble_eq_true rfl) rfl B hml hv ?_
  intro C0 hU hH hr hlocks hin ls hl
  have hx := C0.1
  have hb := C0.2.1
  have hts := C0.2.2.2.2
  have htab := vx_table (x := yX0_isTurned) B (hts _ q934)
  have b15 : ∀ (w : Hp) (t0 : Int64) (t1 : Int32) (at2 : Nat), wp_X0_isTurned_b15 K  w t0 t1 at2 → ∀ (H : Heap) (locs : List Loc) (ls : Array Slot), hx_H G w s H locs → lv_has ls 4 [] → W p l e (headSpec (ws9_X0_isTurned) rm_X0_isTurned).room s m args below meth c H locs (1) (6) (Q9_X0_isTurned below args s G K) (F0 m 15 ls [.long t0, .int t1, va_rf (some at2)]) := by
    intro w t0 t1 at2 h H locs ls hH hl
    refine hx_sJ C0 hU hH h dX0_isTurned_15 (fun w H locs hH h => ?_)
    refine lv_goto hx hb dX0_isTurned_16 (tgt := 22) (by decide) ?_
    refine lv_iconst (v := 0) hx hb dX0_isTurned_22 (by decide) ?_
    exact hx_reti C0 hH hr hlocks h (Nat.le_of_ble_eq_true rfl) (Nat.le_of_ble_eq_true rfl) dX0_isTurned_23
  refine hx_aload_n C0 dX0_isTurned_0 rfl (lv_at hl 2 rfl) ?_
  refine lv_iconst (v := 0) hx hb dX0_isTurned_1 (by decide) ?_
  refine hx_aload_n C0 dX0_isTurned_2 rfl (lv_at hl 0 rfl) ?_
  refine lv_iload_n hx hb dX0_isTurned_3 rfl (lv_at hl 1 rfl) ?_
  obtain ⟨ho, h⟩ := h
  refine hx_xVi C0 hU hH (As := [.int x1]) (wk_X1_isTurned l hst h) (cwV 1 hts (lw_V q935 q936 q937 q60 q938) rfl rfl rfl (by decide +kernel) ⟨Nat.le_of_ble_eq_true rfl, Nat.le_of_ble_eq_true rfl⟩) (hx_recv hU hH (ci := 0) rfl ho) rfl hl.1 rfl (Nat.le_of_ble_eq_true rfl) dX0_isTurned_4 ⟨Nat.le_of_ble_eq_true rfl, Nat.le_of_ble_eq_true rfl⟩ (fun E ce q9 w H locs hH hXE h1 h2 h3 => ?_) (fun i_1 w H locs hH h => ?_)
  · obtain ⟨rfl, h⟩ := hXE
    refine vx_catch C0.2.2.2.1 (name := eIO) (tableOf []) ⟨0, 16, 19, 21⟩ (tableOf []) (htab.trans rfl) (List.forall_mem_nil _) rfl (by decide) (hts _ q541) (va_Nw.use rfl (hU.2.2.1 _ q574 rfl)) h1 h2 h3 ?_
    refine hx_astore_n C0 dX0_isTurned_19 rfl hl (by decide) (lv' := [(3, va_rf (some q9)), (0, va_rf (some a0)), (1, .int x1), (2, va_rf (some a2))]) rfl (fun ls hl => ?_)
    refine lv_iconst (v := 1) hx hb dX0_isTurned_20 (by decide) ?_
    exact hx_reti C0 hH hr hlocks h (Nat.le_of_ble_eq_true rfl) (Nat.le_of_ble_eq_true rfl) dX0_isTurned_21
  refine lv_if_eq hx hb dX0_isTurned_7 (tgt := 14) (by decide) (fun c_2 => ?_) (fun c_2 => ?_)
  · have h := h.1 c_2
    refine lv_lconst (v := 0) hx hb dX0_isTurned_14 (by decide) ?_
    refine W.widen (k := 1) (n := 6) (Nat.le_of_ble_eq_true rfl) (Nat.le_of_ble_eq_true rfl) ?_
    exact b15 _ _ _ _ h _ _ _ hH (lv_sub hl [] rfl)
  · have h := h.2 c_2
    refine lv_lconst (v := 1) hx hb dX0_isTurned_10 (by decide) ?_
    refine lv_goto hx hb dX0_isTurned_11 (tgt := 15) (by decide) ?_
    refine W.widen (k := 1) (n := 6) (Nat.le_of_ble_eq_true rfl) (Nat.le_of_ble_eq_true rfl) ?_
    exact b15 _ _ _ _ h _ _ _ hH (lv_sub hl [] rfl)
def wp_X0_address (w : Hp) (a0 : Nat) (x1 : Int32) (a2 : Nat) (K : Hp → Int32 → Prop) : Prop :=
  isO w a0 0 <| wp_X1_address w a0 x1 (fun w E => (E = eIO ∧ (K w (1 : Int32)))) fun w i_1 => sJ w a2 (0 : Int32) (i_1.toInt64) fun w => K w (0 : Int32)
abbrev rm_X0_address : Room := { frames := 8, cells := 1, slots := 6, locals := 123 }
abbrev ws9_X0_address : List Cond := wsW_ yX0_address cX0_address 4 (Option.some Jvm.ClassFile.FieldType.int) [((0 : Nat), (9 : Nat), (12 : Nat), (21 : Nat))]
abbrev Q9_X0_address (below : List Frame) (args : Array Value) (s : State) (G : hG) (K : Hp → Int32 → Prop) : State → Prop := MQ below (hx_Qi G K) args s 1 6 (hx_A G)
set_option maxHeartbeats 4000000 in
set_option maxRecDepth 100000 in
theorem wk_X0_address (l : Launch) (hst : l.stackTraces = false) {G : hG} {w : Hp} {a0 : Nat} {x1 : Int32} {a2 : Nat} {K : Hp → Int32 → Prop} (h : wp_X0_address w a0 x1 a2 K) : hx_Mi l yX0_address (ws9_X0_address) rm_X0_address G w [.ref a0, .int x1, .ref a2] K 1 6 := by
  refine va_MetW (cc := cX0_address) (maxL := 4) (ret := (Option.some Jvm.ClassFile.FieldType.int)) (by decide +kernel) rfl ?_
  intro p e s m args below meth c s₁ B hml hv
  refine hx_in (own := RX0) (av := [.ref a0, .int x1, .ref a2]) (vl := [(0, va_rf (some a0)), (1, .int x1), (2, va_rf (some a2))]) rfl rfl (Nat.le_of_ble_eq_true rfl) rfl B hml hv ?_
  intro C0 hU hH hr hlocks hin ls hl
  have hx := C0.1
  have hb := C0.2.1
  have hts := C0.2.2.2.2
  have htab := vx_table (x := yX0_address) B (hts _ q941)
  refine hx_aload_n C0 dX0_address_0 rfl (lv_at hl 2 rfl) ?_
  refine lv_iconst (v := 0) hx hb dX0_address_1 (by decide) ?_
  refine hx_aload_n C0 dX0_address_2 rfl (lv_at hl 0 rfl) ?_
  refine lv_iload_n hx hb dX0_address_3 rfl (lv_at hl 1 rfl) ?_
  obtain ⟨ho, h⟩ := h
  refine hx_xVi C0 hU hH (As := [.int x1]) (wk_X1_address l hst h) (cwV 1 hts (lw_V q942 q943 q944 q60 q945) rfl rfl rfl (by decide +kernel) ⟨Nat.le_of_ble_eq_true rfl, Nat.le_of_ble_eq_true rfl⟩) (hx_recv hU hH (ci := 0) rfl ho) rfl hl.1 rfl (Nat.le_of_ble_eq_true rfl) dX0_address_4 ⟨Nat.le_of_ble_eq_true rfl, Nat.le_of_ble_eq_true rfl⟩ (fun E ce q9 w H locs hH hXE h1 h2 h3 => ?_) (fun i_1 w H locs hH h => ?_)
  · obtain ⟨rfl, h⟩ := hXE
    refine vx_catch C0.2.2.2.1 (name := eIO) (tableOf []) ⟨0, 9, 12, 21⟩ (tableOf []) (htab.trans rfl) (List.forall_mem_nil _) rfl (by decide) (hts _ q541) (va_Nw.use rfl (hU.2.2.1 _ q574 rfl)) h1 h2 h3 ?_
    refine hx_astore_n C0 dX0_address_12 rfl hl (by decide) (lv' := [(3, va_rf (some q9)), (0, va_rf (some a0)), (1, .int x1), (2, va_rf (some a2))]) rfl (fun ls hl => ?_)
    refine lv_iconst (v := 1) hx hb dX0_address_13 (by decide) ?_
    exact hx_reti C0 hH hr hlocks h (Nat.le_of_ble_eq_true rfl) (Nat.le_of_ble_eq_true rfl) dX0_address_14
  refine lv_i2l hx hb dX0_address_7 rfl ?_
  refine hx_sJ C0 hU hH h dX0_address_8 (fun w H locs hH h => ?_)
  refine lv_goto hx hb dX0_address_9 (tgt := 15) (by decide) ?_
  refine lv_iconst (v := 0) hx hb dX0_address_15 (by decide) ?_
  exact hx_reti C0 hH hr hlocks h (Nat.le_of_ble_eq_true rfl) (Nat.le_of_ble_eq_true rfl) dX0_address_16
def wp_X0_known (w : Hp) (a0 : Nat) (x1 : Int32) (x2 : Int32) (a3 : Nat) (K : Hp → Int32 → Prop) : Prop :=
  isO w a0 0 <| wp_X1_known w a0 x1 x2 (fun w E => (E = eIO ∧ (K w (1 : Int32))) ∨ (E = eIA ∧ (K w (2 : Int32)))) fun w i_1 => sJ w a3 (0 : Int32) (i_1.toInt64) fun w => K w (0 : Int32)
abbrev rm_X0_known : Room := { frames := 9, cells := 3, slots := 18, locals := 145 }
abbrev ws9_X0_known : List Cond := wsW_ yX0_known cX0_known 5 (Option.some Jvm.ClassFile.FieldType.int) [((0 : Nat), (10 : Nat), (13 : Nat), (21 : Nat)), ((0 : Nat), (10 : Nat), (17 : Nat), (13 : Nat))]
abbrev Q9_X0_known (below : List Frame) (args : Array Value) (s : State) (G : hG) (K : Hp → Int32 → Prop) : State → Prop := MQ below (hx_Qi G K) args s 3 18 (hx_A G)
set_option maxHeartbeats 4000000 in
set_option maxRecDepth 100000 in
theorem wk_X0_known (l : Launch) (hst : l.stackTraces = false) {G : hG} {w : Hp} {a0 : Nat} {x1 : Int32} {x2 : Int32} {a3 : Nat} {K : Hp → Int32 → Prop} (h : wp_X0_known w a0 x1 x2 a3 K) : hx_Mi l yX0_known (ws9_X0_known) rm_X0_known G w [.ref a0, .int x1, .int x2, .ref a3] K 3 18 := by
  refine va_MetW (cc := cX0_known) (maxL := 5) (ret := (Option.some Jvm.ClassFile.FieldType.int)) (by decide +kernel) rfl ?_
  intro p e s m args below meth c s₁ B hml hv
  refine hx_in (own := RX0) (av := [.ref a0, .int x1, .int x2, .ref a3]) (vl := [(0, va_rf (some a0)), (1, .int x1), (2, .int x2), (3, va_rf (some a3))]) rfl rfl (Nat.le_of_ble_eq_true rfl) rfl B hml hv ?_
  intro C0 hU hH hr hlocks hin ls hl
  have hx := C0.1
  have hb := C0.2.1
  have hts := C0.2.2.2.2
  have htab := vx_table (x := yX0_known) B (hts _ q948)
  refine hx_aload_n C0 dX0_known_0 rfl (lv_at hl 3 rfl) ?_
  refine lv_iconst (v := 0) hx hb dX0_known_1 (by decide) ?_
  refine hx_aload_n C0 dX0_known_2 rfl (lv_at hl 0 rfl) ?_
  refine lv_iload_n hx hb dX0_known_3 rfl (lv_at hl 1 rfl) ?_
  refine lv_iload_n hx hb dX0_known_4 rfl (lv_at hl 2 rfl) ?_
  obtain ⟨ho, h⟩ := h
  refine hx_xVi C0 hU hH (As := [.int x1, .int x2]) (wk_X1_known l hst h) (cwV 2 hts (lw_V q949 q950 q951 q60 q952) rfl rfl rfl (by decide +kernel) ⟨Nat.le_of_ble_eq_true rfl, Nat.le_of_ble_eq_true rfl⟩) (hx_recv hU hH (ci := 0) rfl ho) rfl hl.1 rfl (Nat.le_of_ble_eq_true rfl) dX0_known_5 ⟨Nat.le_of_ble_eq_true rfl, Nat.le_of_ble_eq_true rfl⟩ (fun E ce q9 w H locs hH hXE h1 h2 h3 => ?_) (fun i_1 w H locs hH h => ?_)
  · rcases hXE with ⟨rfl, h⟩ | ⟨rfl, h⟩
    · refine vx_catch C0.2.2.2.1 (name := eIO) (tableOf []) ⟨0, 10, 13, 21⟩ (tableOf [(0, 10, 17, 13)]) (htab.trans rfl) (List.forall_mem_nil _) rfl (by decide) (hts _ q541) (va_Nw.use rfl (hU.2.2.1 _ q574 rfl)) h1 h2 h3 ?_
      refine hx_astore C0 dX0_known_13 hl (by decide) (lv' := [(4, va_rf (some q9)), (0, va_rf (some a0)), (1, .int x1), (2, .int x2), (3, va_rf (some a3))]) rfl (fun ls hl => ?_)
      refine lv_iconst (v := 1) hx hb dX0_known_15 (by decide) ?_
      exact hx_reti C0 hH hr hlocks h (Nat.le_of_ble_eq_true rfl) (Nat.le_of_ble_eq_true rfl) dX0_known_16
    · refine vx_catch C0.2.2.2.1 (name := eIA) (tableOf [(0, 10, 13, 21)]) ⟨0, 10, 17, 13⟩ (tableOf []) (htab.trans rfl) (List.forall_mem_cons.mpr ⟨Or.inr ⟨by decide, eIO, hts _ q541, hU.2.2.2.2.2.2.1 (eIA, eIO) (by decide)⟩, (List.forall_mem_nil _)⟩) rfl (by decide) (hts _ q490) (va_Nw.use rfl (hU.2.2.1 _ q498 rfl)) h1 h2 h3 ?_
      refine hx_astore C0 dX0_known_17 hl (by decide) (lv' := [(4, va_rf (some q9)), (0, va_rf (some a0)), (1, .int x1), (2, .int x2), (3, va_rf (some a3))]) rfl (fun ls hl => ?_)
      refine lv_iconst (v := 2) hx hb dX0_known_19 (by decide) ?_
      exact hx_reti C0 hH hr hlocks h (Nat.le_of_ble_eq_true rfl) (Nat.le_of_ble_eq_true rfl) dX0_known_20
  refine lv_i2l hx hb dX0_known_8 rfl ?_
  refine hx_sJ C0 hU hH h dX0_known_9 (fun w H locs hH h => ?_)
  refine lv_goto hx hb dX0_known_10 (tgt := 21) (by decide) ?_
  refine lv_iconst (v := 0) hx hb dX0_known_21 (by decide) ?_
  exact hx_reti C0 hH hr hlocks h (Nat.le_of_ble_eq_true rfl) (Nat.le_of_ble_eq_true rfl) dX0_known_22
def wp_X0_route (w : Hp) (a0 : Nat) (x1 : Int32) (x2 : Int32) (a3 : Nat) (K : Hp → Int32 → Prop) : Prop :=
  isO w a0 0 <| wp_X1_route w a0 x1 x2 (fun w E => (E = eIO ∧ (K w (1 : Int32))) ∨ (E = eIA ∧ (K w (2 : Int32)))) fun w i_1 => sJ w a3 (0 : Int32) (i_1.toInt64) fun w => K w (0 : Int32)
abbrev rm_X0_route : Room := { frames := 8, cells := 2, slots := 12, locals := 124 }
abbrev ws9_X0_route : List Cond := wsW_ yX0_route cX0_route 5 (Option.some Jvm.ClassFile.FieldType.int) [((0 : Nat), (10 : Nat), (13 : Nat), (21 : Nat)), ((0 : Nat), (10 : Nat), (17 : Nat), (13 : Nat))]
abbrev Q9_X0_route (below : List Frame) (args : Array Value) (s : State) (G : hG) (K : Hp → Int32 → Prop) : State → Prop := MQ below (hx_Qi G K) args s 2 12 (hx_A G)
set_option maxHeartbeats 4000000 in
set_option maxRecDepth 100000 in
theorem wk_X0_route (l : Launch) (hst : l.stackTraces = false) {G : hG} {w : Hp} {a0 : Nat} {x1 : Int32} {x2 : Int32} {a3 : Nat} {K : Hp → Int32 → Prop} (h : wp_X0_route w a0 x1 x2 a3 K) : hx_Mi l yX0_route (ws9_X0_route) rm_X0_route G w [.ref a0, .int x1, .int x2, .ref a3] K 2 12 := by
  refine va_MetW (cc := cX0_route) (maxL := 5) (ret := (Option.some Jvm.ClassFile.FieldType.int)) (by decide +kernel) rfl ?_
  intro p e s m args below meth c s₁ B hml hv
  refine hx_in (own := RX0) (av := [.ref a0, .int x1, .int x2, .ref a3]) (vl := [(0, va_rf (some a0)), (1, .int x1), (2, .int x2), (3, va_rf (some a3))]) rfl rfl (Nat.le_of_ble_eq_true rfl) rfl B hml hv ?_
  intro C0 hU hH hr hlocks hin ls hl
  have hx := C0.1
  have hb := C0.2.1
  have hts := C0.2.2.2.2
  have htab := vx_table (x := yX0_route) B (hts _ q955)
  refine hx_aload_n C0 dX0_route_0 rfl (lv_at hl 3 rfl) ?_
  refine lv_iconst (v := 0) hx hb dX0_route_1 (by decide) ?_
  refine hx_aload_n C0 dX0_route_2 rfl (lv_at hl 0 rfl) ?_
  refine lv_iload_n hx hb dX0_route_3 rfl (lv_at hl 1 rfl) ?_
  refine lv_iload_n hx hb dX0_route_4 rfl (lv_at hl 2 rfl) ?_
  obtain ⟨ho, h⟩ := h
  refine hx_xVi C0 hU hH (As := [.int x1, .int x2]) (wk_X1_route l hst h) (cwV 2 hts (lw_V q956 q957 q958 q60 q959) rfl rfl rfl (by decide +kernel) ⟨Nat.le_of_ble_eq_true rfl, Nat.le_of_ble_eq_true rfl⟩) (hx_recv hU hH (ci := 0) rfl ho) rfl hl.1 rfl (Nat.le_of_ble_eq_true rfl) dX0_route_5 ⟨Nat.le_of_ble_eq_true rfl, Nat.le_of_ble_eq_true rfl⟩ (fun E ce q9 w H locs hH hXE h1 h2 h3 => ?_) (fun i_1 w H locs hH h => ?_)
  · rcases hXE with ⟨rfl, h⟩ | ⟨rfl, h⟩
    · refine vx_catch C0.2.2.2.1 (name := eIO) (tableOf []) ⟨0, 10, 13, 21⟩ (tableOf [(0, 10, 17, 13)]) (htab.trans rfl) (List.forall_mem_nil _) rfl (by decide) (hts _ q541) (va_Nw.use rfl (hU.2.2.1 _ q574 rfl)) h1 h2 h3 ?_
      refine hx_astore C0 dX0_route_13 hl (by decide) (lv' := [(4, va_rf (some q9)), (0, va_rf (some a0)), (1, .int x1), (2, .int x2), (3, va_rf (some a3))]) rfl (fun ls hl => ?_)
      refine lv_iconst (v := 1) hx hb dX0_route_15 (by decide) ?_
      exact hx_reti C0 hH hr hlocks h (Nat.le_of_ble_eq_true rfl) (Nat.le_of_ble_eq_true rfl) dX0_route_16
    · refine vx_catch C0.2.2.2.1 (name := eIA) (tableOf [(0, 10, 13, 21)]) ⟨0, 10, 17, 13⟩ (tableOf []) (htab.trans rfl) (List.forall_mem_cons.mpr ⟨Or.inr ⟨by decide, eIO, hts _ q541, hU.2.2.2.2.2.2.1 (eIA, eIO) (by decide)⟩, (List.forall_mem_nil _)⟩) rfl (by decide) (hts _ q490) (va_Nw.use rfl (hU.2.2.1 _ q498 rfl)) h1 h2 h3 ?_
      refine hx_astore C0 dX0_route_17 hl (by decide) (lv' := [(4, va_rf (some q9)), (0, va_rf (some a0)), (1, .int x1), (2, .int x2), (3, va_rf (some a3))]) rfl (fun ls hl => ?_)
      refine lv_iconst (v := 2) hx hb dX0_route_19 (by decide) ?_
      exact hx_reti C0 hH hr hlocks h (Nat.le_of_ble_eq_true rfl) (Nat.le_of_ble_eq_true rfl) dX0_route_20
  refine lv_i2l hx hb dX0_route_8 rfl ?_
  refine hx_sJ C0 hU hH h dX0_route_9 (fun w H locs hH h => ?_)
  refine lv_goto hx hb dX0_route_10 (tgt := 21) (by decide) ?_
  refine lv_iconst (v := 0) hx hb dX0_route_21 (by decide) ?_
  exact hx_reti C0 hH hr hlocks h (Nat.le_of_ble_eq_true rfl) (Nat.le_of_ble_eq_true rfl) dX0_route_22
def wp_X0_session (w : Hp) (a0 : Nat) (x1 : Int32) (x2 : Int32) (x3 : Int32) (x4 : Int32) (a5 : Nat) (K : Hp → Int32 → Prop) : Prop :=
  isO w a0 0 <| wp_X1_session w a0 x1 x2 x3 x4 (fun w E => (E = eIO ∧ (K w (1 : Int32))) ∨ (E = eIA ∧ (K w (2 : Int32))) ∨ (E = eNS ∧ (K w (3 : Int32)))) fun w i_1 => sJ w a5 (0 : Int32) (i_1.toInt64) fun w => K w (0 : Int32)
abbrev rm_X0_session : Room := { frames := 9, cells := 4, slots := 24, locals := 148 }
abbrev ws9_X0_session : List Cond := wsW_ yX0_session cX0_session 7 (Option.some Jvm.ClassFile.FieldType.int) [((0 : Nat), (14 : Nat), (17 : Nat), (21 : Nat)), ((0 : Nat), (14 : Nat), (21 : Nat), (13 : Nat)), ((0 : Nat), (14 : Nat), (25 : Nat), (35 : Nat))]
abbrev Q9_X0_session (below : List Frame) (args : Array Value) (s : State) (G : hG) (K : Hp → Int32 → Prop) : State → Prop := MQ below (hx_Qi G K) args s 4 24 (hx_A G)
set_option maxHeartbeats 4000000 in
set_option maxRecDepth 100000 in
theorem wk_X0_session (l : Launch) (hst : l.stackTraces = false) {G : hG} {w : Hp} {a0 : Nat} {x1 : Int32} {x2 : Int32} {x3 : Int32} {x4 : Int32} {a5 : Nat} {K : Hp → Int32 → Prop} (h : wp_X0_session w a0 x1 x2 x3 x4 a5 K) : hx_Mi l yX0_session (ws9_X0_session) rm_X0_session G w [.ref a0, .int x1, .int x2, .int x3, .int x4, .ref a5] K 4 24 := by
  refine va_MetW (cc := cX0_session) (maxL := 7) (ret := (Option.some Jvm.ClassFile.FieldType.int)) (by decide +kernel) rfl ?_
  intro p e s m args below meth c s₁ B hml hv
  refine hx_in (own := RX0) (av := [.ref a0, .int x1, .int x2, .int x3, .int x4, .ref a5]) (vl := [(0, va_rf (some a0)), (1, .int x1), (2, .int x2), (3, .int x3), (4, .int x4), (5, va_rf (some a5))]) rfl rfl (Nat.le_of_ble_eq_true rfl) rfl B hml hv ?_
  intro C0 hU hH hr hlocks hin ls hl
  have hx := C0.1
  have hb := C0.2.1
  have hts := C0.2.2.2.2
  have htab := vx_table (x := yX0_session) B (hts _ q963)
  refine hx_aload C0 dX0_session_0 (lv_at hl 5 rfl) ?_
  refine lv_iconst (v := 0) hx hb dX0_session_2 (by decide) ?_
  refine hx_aload_n C0 dX0_session_3 rfl (lv_at hl 0 rfl) ?_
  refine lv_iload_n hx hb dX0_session_4 rfl (lv_at hl 1 rfl) ?_
  refine lv_iload_n hx hb dX0_session_5 rfl (lv_at hl 2 rfl) ?_
  refine lv_iload_n hx hb dX0_session_6 rfl (lv_at hl 3 rfl) ?_
  refine lv_iload hx hb dX0_session_7 (lv_at hl 4 rfl) ?_
  obtain ⟨ho, h⟩ := h
  refine hx_xVi C0 hU hH (As := [.int x1, .int x2, .int x3, .int x4]) (wk_X1_session l hst h) (cwV 4 hts (lw_V q964 q965 q966 q60 q967) rfl rfl rfl (by decide +kernel) ⟨Nat.le_of_ble_eq_true rfl, Nat.le_of_ble_eq_true rfl⟩) (hx_recv hU hH (ci := 0) rfl ho) rfl hl.1 rfl (Nat.le_of_ble_eq_true rfl) dX0_session_9 ⟨Nat.le_of_ble_eq_true rfl, Nat.le_of_ble_eq_true rfl⟩ (fun E ce q9 w H locs hH hXE h1 h2 h3 => ?_) (fun i_1 w H locs hH h => ?_)
  · rcases hXE with ⟨rfl, h⟩ | ⟨rfl, h⟩ | ⟨rfl, h⟩
    · refine vx_catch C0.2.2.2.1 (name := eIO) (tableOf []) ⟨0, 14, 17, 21⟩ (tableOf [(0, 14, 21, 13), (0, 14, 25, 35)]) (htab.trans rfl) (List.forall_mem_nil _) rfl (by decide) (hts _ q541) (va_Nw.use rfl (hU.2.2.1 _ q574 rfl)) h1 h2 h3 ?_
      refine hx_astore C0 dX0_session_17 hl (by decide) (lv' := [(6, va_rf (some q9)), (0, va_rf (some a0)), (1, .int x1), (2, .int x2), (3, .int x3), (4, .int x4), (5, va_rf (some a5))]) rfl (fun ls hl => ?_)
      refine lv_iconst (v := 1) hx hb dX0_session_19 (by decide) ?_
      exact hx_reti C0 hH hr hlocks h (Nat.le_of_ble_eq_true rfl) (Nat.le_of_ble_eq_true rfl) dX0_session_20
    · refine vx_catch C0.2.2.2.1 (name := eIA) (tableOf [(0, 14, 17, 21)]) ⟨0, 14, 21, 13⟩ (tableOf [(0, 14, 25, 35)]) (htab.trans rfl) (List.forall_mem_cons.mpr ⟨Or.inr ⟨by decide, eIO, hts _ q541, hU.2.2.2.2.2.2.1 (eIA, eIO) (by decide)⟩, (List.forall_mem_nil _)⟩) rfl (by decide) (hts _ q490) (va_Nw.use rfl (hU.2.2.1 _ q498 rfl)) h1 h2 h3 ?_
      refine hx_astore C0 dX0_session_21 hl (by decide) (lv' := [(6, va_rf (some q9)), (0, va_rf (some a0)), (1, .int x1), (2, .int x2), (3, .int x3), (4, .int x4), (5, va_rf (some a5))]) rfl (fun ls hl => ?_)
      refine lv_iconst (v := 2) hx hb dX0_session_23 (by decide) ?_
      exact hx_reti C0 hH hr hlocks h (Nat.le_of_ble_eq_true rfl) (Nat.le_of_ble_eq_true rfl) dX0_session_24
    · refine vx_catch C0.2.2.2.1 (name := eNS) (tableOf [(0, 14, 17, 21), (0, 14, 21, 13)]) ⟨0, 14, 25, 35⟩ (tableOf []) (htab.trans rfl) (List.forall_mem_cons.mpr ⟨Or.inr ⟨by decide, eIO, hts _ q541, hU.2.2.2.2.2.2.1 (eNS, eIO) (by decide)⟩, (List.forall_mem_cons.mpr ⟨Or.inr ⟨by decide, eIA, hts _ q490, hU.2.2.2.2.2.2.1 (eNS, eIA) (by decide)⟩, (List.forall_mem_nil _)⟩)⟩) rfl (by decide) (hts _ q612) (va_Nw.use rfl (hU.2.2.1 _ q374 rfl)) h1 h2 h3 ?_
      refine hx_astore C0 dX0_session_25 hl (by decide) (lv' := [(6, va_rf (some q9)), (0, va_rf (some a0)), (1, .int x1), (2, .int x2), (3, .int x3), (4, .int x4), (5, va_rf (some a5))]) rfl (fun ls hl => ?_)
      refine lv_iconst (v := 3) hx hb dX0_session_27 (by decide) ?_
      exact hx_reti C0 hH hr hlocks h (Nat.le_of_ble_eq_true rfl) (Nat.le_of_ble_eq_true rfl) dX0_session_28
  refine lv_i2l hx hb dX0_session_12 rfl ?_
  refine hx_sJ C0 hU hH h dX0_session_13 (fun w H locs hH h => ?_)
  refine lv_goto hx hb dX0_session_14 (tgt := 29) (by decide) ?_
  refine lv_iconst (v := 0) hx hb dX0_session_29 (by decide) ?_
  exact hx_reti C0 hH hr hlocks h (Nat.le_of_ble_eq_true rfl) (Nat.le_of_ble_eq_true rfl) dX0_session_30
def wp_X0_isUsable_b16 (K : Hp → Int32 → Prop)  (w : Hp) (t0 : Int64) (t1 : Int32) (at2 : Nat) : Prop :=
  sJ w at2 t1 t0 fun w => K w (0 : Int32)
def wp_X0_isUsable (w : Hp) (a0 : Nat) (x1 : Int32) (x2 : Int32) (a3 : Nat) (K : Hp → Int32 → Prop) : Prop :=
  isO w a0 0 <| wp_X1_isUsable_2 w a0 x1 x2 (fun w E => (E = eIO ∧ (K w (1 : Int32))) ∨ (E = eIA ∧ (K w (2 : Int32)))) fun w i_1 => br (i_1 = 0) (wp_X0_isUsable_b16 K w (0 : Int64) (0 : Int32) a3) (wp_X0_isUsable_b16 K w (1 : Int64) (0 : Int32) a3)
abbrev rm_X0_isUsable : Room := { frames := 9, cells := 3, slots := 18, locals := 145 }
abbrev ws9_X0_isUsable : List Cond := wsW_ yX0_isUsable cX0_isUsable 5 (Option.some Jvm.ClassFile.FieldType.int) [((0 : Nat), (17 : Nat), (20 : Nat), (21 : Nat)), ((0 : Nat), (17 : Nat), (24 : Nat), (13 : Nat))]
abbrev Q9_X0_isUsable (below : List Frame) (args : Array Value) (s : State) (G : hG) (K : Hp → Int32 → Prop) : State → Prop := MQ below (hx_Qi G K) args s 3 18 (hx_A G)
set_option maxHeartbeats 4000000 in
set_option maxRecDepth 100000 in
theorem wk_X0_isUsable (l : Launch) (hst : l.stackTraces = false) {G : hG} {w : Hp} {a0 : Nat} {x1 : Int32} {x2 : Int32} {a3 : Nat} {K : Hp → Int32 → Prop} (h : wp_X0_isUsable w a0 x1 x2 a3 K) : hx_Mi l yX0_isUsable (ws9_X0_isUsable) rm_X0_isUsable G w [.ref a0, .int x1, .int x2, .ref a3] K 3 18 := by
  refine va_MetW (cc := cX0_isUsable) (maxL := 5) (ret := (Option.some Jvm.ClassFile.FieldType.int)) (by decide +kernel) rfl ?_
  intro p e s m args below meth c s₁ B hml hv
  refine hx_in (own := RX0) (av := [.ref a0, .int x1, .int x2, .ref a3]) (vl := [(0, va_rf (some a0)), (1, .int x1), (2, .int x2), (3, va_rf (some a3))]) rfl rfl (Nat.le_of_ble_eq_true rfl) rfl B hml hv ?_
  intro C0 hU hH hr hlocks hin ls hl
  have hx := C0.1
  have hb := C0.2.1
  have hts := C0.2.2.2.2
  have htab := vx_table (x := yX0_isUsable) B (hts _ q971)
  have b16 : ∀ (w : Hp) (t0 : Int64) (t1 : Int32) (at2 : Nat), wp_X0_isUsable_b16 K  w t0 t1 at2 → ∀ (H : Heap) (locs : List Loc) (ls : Array Slot), hx_H G w s H locs → lv_has ls 5 [] → W p l e (headSpec (ws9_X0_isUsable) rm_X0_isUsable).room s m args below meth c H locs (3) (18) (Q9_X0_isUsable below args s G K) (F0 m 16 ls [.long t0, .int t1, va_rf (some at2)]) := by
    intro w t0 t1 at2 h H locs ls hH hl
    refine hx_sJ C0 hU hH h dX0_isUsable_16 (fun w H locs hH h => ?_)
    refine lv_goto hx hb dX0_isUsable_17 (tgt := 28) (by decide) ?_
    refine lv_iconst (v := 0) hx hb dX0_isUsable_28 (by decide) ?_
    exact hx_reti C0 hH hr hlocks h (Nat.le_of_ble_eq_true rfl) (Nat.le_of_ble_eq_true rfl) dX0_isUsable_29
  refine hx_aload_n C0 dX0_isUsable_0 rfl (lv_at hl 3 rfl) ?_
  refine lv_iconst (v := 0) hx hb dX0_isUsable_1 (by decide) ?_
  refine hx_aload_n C0 dX0_isUsable_2 rfl (lv_at hl 0 rfl) ?_
  refine lv_iload_n hx hb dX0_isUsable_3 rfl (lv_at hl 1 rfl) ?_
  refine lv_iload_n hx hb dX0_isUsable_4 rfl (lv_at hl 2 rfl) ?_
  obtain ⟨ho, h⟩ := h
  refine hx_xVi C0 hU hH (As := [.int x1, .int x2]) (wk_X1_isUsable_2 l hst h) (cwV 2 hts (lw_V q972 q973 q974 q60 q975) rfl rfl rfl (by decide +kernel) ⟨Nat.le_of_ble_eq_true rfl, Nat.le_of_ble_eq_true rfl⟩) (hx_recv hU hH (ci := 0) rfl ho) rfl hl.1 rfl (Nat.le_of_ble_eq_true rfl) dX0_isUsable_5 ⟨Nat.le_of_ble_eq_true rfl, Nat.le_of_ble_eq_true rfl⟩ (fun E ce q9 w H locs hH hXE h1 h2 h3 => ?_) (fun i_1 w H locs hH h => ?_)
  · rcases hXE with ⟨rfl, h⟩ | ⟨rfl, h⟩
    · refine vx_catch C0.2.2.2.1 (name := eIO) (tableOf []) ⟨0, 17, 20, 21⟩ (tableOf [(0, 17, 24, 13)]) (htab.trans rfl) (List.forall_mem_nil _) rfl (by decide) (hts _ q541) (va_Nw.use rfl (hU.2.2.1 _ q574 rfl)) h1 h2 h3 ?_
      refine hx_astore C0 dX0_isUsable_20 hl (by decide) (lv' := [(4, va_rf (some q9)), (0, va_rf (some a0)), (1, .int x1), (2, .int x2), (3, va_rf (some a3))]) rfl (fun ls hl => ?_)
      refine lv_iconst (v := 1) hx hb dX0_isUsable_22 (by decide) ?_
      exact hx_reti C0 hH hr hlocks h (Nat.le_of_ble_eq_true rfl) (Nat.le_of_ble_eq_true rfl) dX0_isUsable_23
    · refine vx_catch C0.2.2.2.1 (name := eIA) (tableOf [(0, 17, 20, 21)]) ⟨0, 17, 24, 13⟩ (tableOf []) (htab.trans rfl) (List.forall_mem_cons.mpr ⟨Or.inr ⟨by decide, eIO, hts _ q541, hU.2.2.2.2.2.2.1 (eIA, eIO) (by decide)⟩, (List.forall_mem_nil _)⟩) rfl (by decide) (hts _ q490) (va_Nw.use rfl (hU.2.2.1 _ q498 rfl)) h1 h2 h3 ?_
      refine hx_astore C0 dX0_isUsable_24 hl (by decide) (lv' := [(4, va_rf (some q9)), (0, va_rf (some a0)), (1, .int x1), (2, .int x2), (3, va_rf (some a3))]) rfl (fun ls hl => ?_)
      refine lv_iconst (v := 2) hx hb dX0_isUsable_26 (by decide) ?_
      exact hx_reti C0 hH hr hlocks h (Nat.le_of_ble_eq_true rfl) (Nat.le_of_ble_eq_true rfl) dX0_isUsable_27
  refine lv_if_eq hx hb dX0_isUsable_8 (tgt := 15) (by decide) (fun c_2 => ?_) (fun c_2 => ?_)
  · have h := h.1 c_2
    refine lv_lconst (v := 0) hx hb dX0_isUsable_15 (by decide) ?_
    refine W.widen (k := 3) (n := 18) (Nat.le_of_ble_eq_true rfl) (Nat.le_of_ble_eq_true rfl) ?_
    exact b16 _ _ _ _ h _ _ _ hH (lv_sub hl [] rfl)
  · have h := h.2 c_2
    refine lv_lconst (v := 1) hx hb dX0_isUsable_11 (by decide) ?_
    refine lv_goto hx hb dX0_isUsable_12 (tgt := 16) (by decide) ?_
    refine W.widen (k := 3) (n := 18) (Nat.le_of_ble_eq_true rfl) (Nat.le_of_ble_eq_true rfl) ?_
    exact b16 _ _ _ _ h _ _ _ hH (lv_sub hl [] rfl)
def wp_X0_flight (w : Hp) (a0 : Nat) (x1 : Int32) (x2 : Int32) (a3 : Nat) (K : Hp → Int32 → Prop) : Prop :=
  isO w a0 0 <| wp_X1_flight w a0 x1 x2 (fun w E => (E = eIO ∧ (K w (1 : Int32))) ∨ (E = eIA ∧ (K w (2 : Int32)))) fun w i_1 => sJ w a3 (0 : Int32) (i_1.toInt64) fun w => K w (0 : Int32)
abbrev rm_X0_flight : Room := { frames := 9, cells := 3, slots := 18, locals := 146 }
abbrev ws9_X0_flight : List Cond := wsW_ yX0_flight cX0_flight 5 (Option.some Jvm.ClassFile.FieldType.int) [((0 : Nat), (10 : Nat), (13 : Nat), (21 : Nat)), ((0 : Nat), (10 : Nat), (17 : Nat), (13 : Nat))]
abbrev Q9_X0_flight (below : List Frame) (args : Array Value) (s : State) (G : hG) (K : Hp → Int32 → Prop) : State → Prop := MQ below (hx_Qi G K) args s 3 18 (hx_A G)
set_option maxHeartbeats 4000000 in
set_option maxRecDepth 100000 in
theorem wk_X0_flight (l : Launch) (hst : l.stackTraces = false) {G : hG} {w : Hp} {a0 : Nat} {x1 : Int32} {x2 : Int32} {a3 : Nat} {K : Hp → Int32 → Prop} (h : wp_X0_flight w a0 x1 x2 a3 K) : hx_Mi l yX0_flight (ws9_X0_flight) rm_X0_flight G w [.ref a0, .int x1, .int x2, .ref a3] K 3 18 := by
  refine va_MetW (cc := cX0_flight) (maxL := 5) (ret := (Option.some Jvm.ClassFile.FieldType.int)) (by decide +kernel) rfl ?_
  intro p e s m args below meth c s₁ B hml hv
  refine hx_in (own := RX0) (av := [.ref a0, .int x1, .int x2, .ref a3]) (vl := [(0, va_rf (some a0)), (1, .int x1), (2, .int x2), (3, va_rf (some a3))]) rfl rfl (Nat.le_of_ble_eq_true rfl) rfl B hml hv ?_
  intro C0 hU hH hr hlocks hin ls hl
  have hx := C0.1
  have hb := C0.2.1
  have hts := C0.2.2.2.2
  have htab := vx_table (x := yX0_flight) B (hts _ q978)
  refine hx_aload_n C0 dX0_flight_0 rfl (lv_at hl 3 rfl) ?_
  refine lv_iconst (v := 0) hx hb dX0_flight_1 (by decide) ?_
  refine hx_aload_n C0 dX0_flight_2 rfl (lv_at hl 0 rfl) ?_
  refine lv_iload_n hx hb dX0_flight_3 rfl (lv_at hl 1 rfl) ?_
  refine lv_iload_n hx hb dX0_flight_4 rfl (lv_at hl 2 rfl) ?_
  obtain ⟨ho, h⟩ := h
  refine hx_xVi C0 hU hH (As := [.int x1, .int x2]) (wk_X1_flight l hst h) (cwV 2 hts (lw_V q979 q980 q981 q60 q982) rfl rfl rfl (by decide +kernel) ⟨Nat.le_of_ble_eq_true rfl, Nat.le_of_ble_eq_true rfl⟩) (hx_recv hU hH (ci := 0) rfl ho) rfl hl.1 rfl (Nat.le_of_ble_eq_true rfl) dX0_flight_5 ⟨Nat.le_of_ble_eq_true rfl, Nat.le_of_ble_eq_true rfl⟩ (fun E ce q9 w H locs hH hXE h1 h2 h3 => ?_) (fun i_1 w H locs hH h => ?_)
  · rcases hXE with ⟨rfl, h⟩ | ⟨rfl, h⟩
    · refine vx_catch C0.2.2.2.1 (name := eIO) (tableOf []) ⟨0, 10, 13, 21⟩ (tableOf [(0, 10, 17, 13)]) (htab.trans rfl) (List.forall_mem_nil _) rfl (by decide) (hts _ q541) (va_Nw.use rfl (hU.2.2.1 _ q574 rfl)) h1 h2 h3 ?_
      refine hx_astore C0 dX0_flight_13 hl (by decide) (lv' := [(4, va_rf (some q9)), (0, va_rf (some a0)), (1, .int x1), (2, .int x2), (3, va_rf (some a3))]) rfl (fun ls hl => ?_)
      refine lv_iconst (v := 1) hx hb dX0_flight_15 (by decide) ?_
      exact hx_reti C0 hH hr hlocks h (Nat.le_of_ble_eq_true rfl) (Nat.le_of_ble_eq_true rfl) dX0_flight_16
    · refine vx_catch C0.2.2.2.1 (name := eIA) (tableOf [(0, 10, 13, 21)]) ⟨0, 10, 17, 13⟩ (tableOf []) (htab.trans rfl) (List.forall_mem_cons.mpr ⟨Or.inr ⟨by decide, eIO, hts _ q541, hU.2.2.2.2.2.2.1 (eIA, eIO) (by decide)⟩, (List.forall_mem_nil _)⟩) rfl (by decide) (hts _ q490) (va_Nw.use rfl (hU.2.2.1 _ q498 rfl)) h1 h2 h3 ?_
      refine hx_astore C0 dX0_flight_17 hl (by decide) (lv' := [(4, va_rf (some q9)), (0, va_rf (some a0)), (1, .int x1), (2, .int x2), (3, va_rf (some a3))]) rfl (fun ls hl => ?_)
      refine lv_iconst (v := 2) hx hb dX0_flight_19 (by decide) ?_
      exact hx_reti C0 hH hr hlocks h (Nat.le_of_ble_eq_true rfl) (Nat.le_of_ble_eq_true rfl) dX0_flight_20
  refine lv_i2l hx hb dX0_flight_8 rfl ?_
  refine hx_sJ C0 hU hH h dX0_flight_9 (fun w H locs hH h => ?_)
  refine lv_goto hx hb dX0_flight_10 (tgt := 21) (by decide) ?_
  refine lv_iconst (v := 0) hx hb dX0_flight_21 (by decide) ?_
  exact hx_reti C0 hH hr hlocks h (Nat.le_of_ble_eq_true rfl) (Nat.le_of_ble_eq_true rfl) dX0_flight_22
def wp_X0_waiting (w : Hp) (a0 : Nat) (x1 : Int32) (x2 : Int32) (a3 : Nat) (K : Hp → Int32 → Prop) : Prop :=
  isO w a0 0 <| wp_X1_waiting w a0 x1 x2 (fun w E => (E = eIO ∧ (K w (1 : Int32))) ∨ (E = eIA ∧ (K w (2 : Int32)))) fun w i_1 => sJ w a3 (0 : Int32) (i_1.toInt64) fun w => K w (0 : Int32)
abbrev rm_X0_waiting : Room := { frames := 9, cells := 3, slots := 18, locals := 145 }
abbrev ws9_X0_waiting : List Cond := wsW_ yX0_waiting cX0_waiting 5 (Option.some Jvm.ClassFile.FieldType.int) [((0 : Nat), (10 : Nat), (13 : Nat), (21 : Nat)), ((0 : Nat), (10 : Nat), (17 : Nat), (13 : Nat))]
abbrev Q9_X0_waiting (below : List Frame) (args : Array Value) (s : State) (G : hG) (K : Hp → Int32 → Prop) : State → Prop := MQ below (hx_Qi G K) args s 3 18 (hx_A G)
set_option maxHeartbeats 4000000 in
set_option maxRecDepth 100000 in
theorem wk_X0_waiting (l : Launch) (hst : l.stackTraces = false) {G : hG} {w : Hp} {a0 : Nat} {x1 : Int32} {x2 : Int32} {a3 : Nat} {K : Hp → Int32 → Prop} (h : wp_X0_waiting w a0 x1 x2 a3 K) : hx_Mi l yX0_waiting (ws9_X0_waiting) rm_X0_waiting G w [.ref a0, .int x1, .int x2, .ref a3] K 3 18 := by
  refine va_MetW (cc := cX0_waiting) (maxL := 5) (ret := (Option.some Jvm.ClassFile.FieldType.int)) (by decide +kernel) rfl ?_
  intro p e s m args below meth c s₁ B hml hv
  refine hx_in (own := RX0) (av := [.ref a0, .int x1, .int x2, .ref a3]) (vl := [(0, va_rf (some a0)), (1, .int x1), (2, .int x2), (3, va_rf (some a3))]) rfl rfl (Nat.le_of_ble_eq_true rfl) rfl B hml hv ?_
  intro C0 hU hH hr hlocks hin ls hl
  have hx := C0.1
  have hb := C0.2.1
  have hts := C0.2.2.2.2
  have htab := vx_table (x := yX0_waiting) B (hts _ q985)
  refine hx_aload_n C0 dX0_waiting_0 rfl (lv_at hl 3 rfl) ?_
  refine lv_iconst (v := 0) hx hb dX0_waiting_1 (by decide) ?_
  refine hx_aload_n C0 dX0_waiting_2 rfl (lv_at hl 0 rfl) ?_
  refine lv_iload_n hx hb dX0_waiting_3 rfl (lv_at hl 1 rfl) ?_
  refine lv_iload_n hx hb dX0_waiting_4 rfl (lv_at hl 2 rfl) ?_
  obtain ⟨ho, h⟩ := h
  refine hx_xVi C0 hU hH (As := [.int x1, .int x2]) (wk_X1_waiting l hst h) (cwV 2 hts (lw_V q986 q987 q988 q60 q989) rfl rfl rfl (by decide +kernel) ⟨Nat.le_of_ble_eq_true rfl, Nat.le_of_ble_eq_true rfl⟩) (hx_recv hU hH (ci := 0) rfl ho) rfl hl.1 rfl (Nat.le_of_ble_eq_true rfl) dX0_waiting_5 ⟨Nat.le_of_ble_eq_true rfl, Nat.le_of_ble_eq_true rfl⟩ (fun E ce q9 w H locs hH hXE h1 h2 h3 => ?_) (fun i_1 w H locs hH h => ?_)
  · rcases hXE with ⟨rfl, h⟩ | ⟨rfl, h⟩
    · refine vx_catch C0.2.2.2.1 (name := eIO) (tableOf []) ⟨0, 10, 13, 21⟩ (tableOf [(0, 10, 17, 13)]) (htab.trans rfl) (List.forall_mem_nil _) rfl (by decide) (hts _ q541) (va_Nw.use rfl (hU.2.2.1 _ q574 rfl)) h1 h2 h3 ?_
      refine hx_astore C0 dX0_waiting_13 hl (by decide) (lv' := [(4, va_rf (some q9)), (0, va_rf (some a0)), (1, .int x1), (2, .int x2), (3, va_rf (some a3))]) rfl (fun ls hl => ?_)
      refine lv_iconst (v := 1) hx hb dX0_waiting_15 (by decide) ?_
      exact hx_reti C0 hH hr hlocks h (Nat.le_of_ble_eq_true rfl) (Nat.le_of_ble_eq_true rfl) dX0_waiting_16
    · refine vx_catch C0.2.2.2.1 (name := eIA) (tableOf [(0, 10, 13, 21)]) ⟨0, 10, 17, 13⟩ (tableOf []) (htab.trans rfl) (List.forall_mem_cons.mpr ⟨Or.inr ⟨by decide, eIO, hts _ q541, hU.2.2.2.2.2.2.1 (eIA, eIO) (by decide)⟩, (List.forall_mem_nil _)⟩) rfl (by decide) (hts _ q490) (va_Nw.use rfl (hU.2.2.1 _ q498 rfl)) h1 h2 h3 ?_
      refine hx_astore C0 dX0_waiting_17 hl (by decide) (lv' := [(4, va_rf (some q9)), (0, va_rf (some a0)), (1, .int x1), (2, .int x2), (3, va_rf (some a3))]) rfl (fun ls hl => ?_)
      refine lv_iconst (v := 2) hx hb dX0_waiting_19 (by decide) ?_
      exact hx_reti C0 hH hr hlocks h (Nat.le_of_ble_eq_true rfl) (Nat.le_of_ble_eq_true rfl) dX0_waiting_20
  refine lv_i2l hx hb dX0_waiting_8 rfl ?_
  refine hx_sJ C0 hU hH h dX0_waiting_9 (fun w H locs hH h => ?_)
  refine lv_goto hx hb dX0_waiting_10 (tgt := 21) (by decide) ?_
  refine lv_iconst (v := 0) hx hb dX0_waiting_21 (by decide) ?_
  exact hx_reti C0 hH hr hlocks h (Nat.le_of_ble_eq_true rfl) (Nat.le_of_ble_eq_true rfl) dX0_waiting_22
def wp_X0_cookie (w : Hp) (a0 : Nat) (x1 : Int32) (x2 : Int32) (a3 : Nat) (K : Hp → Int32 → Prop) : Prop :=
  isO w a0 0 <| wp_X1_cookie w a0 x1 x2 (fun w E => (E = eIO ∧ (K w (1 : Int32))) ∨ (E = eIA ∧ (K w (2 : Int32)))) fun w i_1 => sJ w a3 (0 : Int32) (i_1.toInt64) fun w => K w (0 : Int32)
abbrev rm_X0_cookie : Room := { frames := 9, cells := 3, slots := 18, locals := 146 }
abbrev ws9_X0_cookie : List Cond := wsW_ yX0_cookie cX0_cookie 5 (Option.some Jvm.ClassFile.FieldType.int) [((0 : Nat), (10 : Nat), (13 : Nat), (21 : Nat)), ((0 : Nat), (10 : Nat), (17 : Nat), (13 : Nat))]
abbrev Q9_X0_cookie (below : List Frame) (args : Array Value) (s : State) (G : hG) (K : Hp → Int32 → Prop) : State → Prop := MQ below (hx_Qi G K) args s 3 18 (hx_A G)
set_option maxHeartbeats 4000000 in
set_option maxRecDepth 100000 in
theorem wk_X0_cookie (l : Launch) (hst : l.stackTraces = false) {G : hG} {w : Hp} {a0 : Nat} {x1 : Int32} {x2 : Int32} {a3 : Nat} {K : Hp → Int32 → Prop} (h : wp_X0_cookie w a0 x1 x2 a3 K) : hx_Mi l yX0_cookie (ws9_X0_cookie) rm_X0_cookie G w [.ref a0, .int x1, .int x2, .ref a3] K 3 18 := by
  refine va_MetW (cc := cX0_cookie) (maxL := 5) (ret := (Option.some Jvm.ClassFile.FieldType.int)) (by decide +kernel) rfl ?_
  intro p e s m args below meth c s₁ B hml hv
  refine hx_in (own := RX0) (av := [.ref a0, .int x1, .int x2, .ref a3]) (vl := [(0, va_rf (some a0)), (1, .int x1), (2, .int x2), (3, va_rf (some a3))]) rfl rfl (Nat.le_of_ble_eq_true rfl) rfl B hml hv ?_
  intro C0 hU hH hr hlocks hin ls hl
  have hx := C0.1
  have hb := C0.2.1
  have hts := C0.2.2.2.2
  have htab := vx_table (x := yX0_cookie) B (hts _ q992)
  refine hx_aload_n C0 dX0_cookie_0 rfl (lv_at hl 3 rfl) ?_
  refine lv_iconst (v := 0) hx hb dX0_cookie_1 (by decide) ?_
  refine hx_aload_n C0 dX0_cookie_2 rfl (lv_at hl 0 rfl) ?_
  refine lv_iload_n hx hb dX0_cookie_3 rfl (lv_at hl 1 rfl) ?_
  refine lv_iload_n hx hb dX0_cookie_4 rfl (lv_at hl 2 rfl) ?_
  obtain ⟨ho, h⟩ := h
  refine hx_xVi C0 hU hH (As := [.int x1, .int x2]) (wk_X1_cookie l hst h) (cwV 2 hts (lw_V q993 q994 q995 q60 q996) rfl rfl rfl (by decide +kernel) ⟨Nat.le_of_ble_eq_true rfl, Nat.le_of_ble_eq_true rfl⟩) (hx_recv hU hH (ci := 0) rfl ho) rfl hl.1 rfl (Nat.le_of_ble_eq_true rfl) dX0_cookie_5 ⟨Nat.le_of_ble_eq_true rfl, Nat.le_of_ble_eq_true rfl⟩ (fun E ce q9 w H locs hH hXE h1 h2 h3 => ?_) (fun i_1 w H locs hH h => ?_)
  · rcases hXE with ⟨rfl, h⟩ | ⟨rfl, h⟩
    · refine vx_catch C0.2.2.2.1 (name := eIO) (tableOf []) ⟨0, 10, 13, 21⟩ (tableOf [(0, 10, 17, 13)]) (htab.trans rfl) (List.forall_mem_nil _) rfl (by decide) (hts _ q541) (va_Nw.use rfl (hU.2.2.1 _ q574 rfl)) h1 h2 h3 ?_
      refine hx_astore C0 dX0_cookie_13 hl (by decide) (lv' := [(4, va_rf (some q9)), (0, va_rf (some a0)), (1, .int x1), (2, .int x2), (3, va_rf (some a3))]) rfl (fun ls hl => ?_)
      refine lv_iconst (v := 1) hx hb dX0_cookie_15 (by decide) ?_
      exact hx_reti C0 hH hr hlocks h (Nat.le_of_ble_eq_true rfl) (Nat.le_of_ble_eq_true rfl) dX0_cookie_16
    · refine vx_catch C0.2.2.2.1 (name := eIA) (tableOf [(0, 10, 13, 21)]) ⟨0, 10, 17, 13⟩ (tableOf []) (htab.trans rfl) (List.forall_mem_cons.mpr ⟨Or.inr ⟨by decide, eIO, hts _ q541, hU.2.2.2.2.2.2.1 (eIA, eIO) (by decide)⟩, (List.forall_mem_nil _)⟩) rfl (by decide) (hts _ q490) (va_Nw.use rfl (hU.2.2.1 _ q498 rfl)) h1 h2 h3 ?_
      refine hx_astore C0 dX0_cookie_17 hl (by decide) (lv' := [(4, va_rf (some q9)), (0, va_rf (some a0)), (1, .int x1), (2, .int x2), (3, va_rf (some a3))]) rfl (fun ls hl => ?_)
      refine lv_iconst (v := 2) hx hb dX0_cookie_19 (by decide) ?_
      exact hx_reti C0 hH hr hlocks h (Nat.le_of_ble_eq_true rfl) (Nat.le_of_ble_eq_true rfl) dX0_cookie_20
  refine lv_i2l hx hb dX0_cookie_8 rfl ?_
  refine hx_sJ C0 hU hH h dX0_cookie_9 (fun w H locs hH h => ?_)
  refine lv_goto hx hb dX0_cookie_10 (tgt := 21) (by decide) ?_
  refine lv_iconst (v := 0) hx hb dX0_cookie_21 (by decide) ?_
  exact hx_reti C0 hH hr hlocks h (Nat.le_of_ble_eq_true rfl) (Nat.le_of_ble_eq_true rfl) dX0_cookie_22
def wp_X0_stamp (w : Hp) (a0 : Nat) (x1 : Int32) (x2 : Int32) (x3 : Int32) (a4 : Nat) (K : Hp → Int32 → Prop) : Prop :=
  isO w a0 0 <| wp_X1_stamp w a0 x1 x2 x3 (fun w E => (E = eIO ∧ (K w (1 : Int32))) ∨ (E = eIA ∧ (K w (2 : Int32)))) fun w i_1 => sJ w a4 (0 : Int32) (i_1.toInt64) fun w => K w (0 : Int32)
abbrev rm_X0_stamp : Room := { frames := 9, cells := 3, slots := 18, locals := 147 }
abbrev ws9_X0_stamp : List Cond := wsW_ yX0_stamp cX0_stamp 6 (Option.some Jvm.ClassFile.FieldType.int) [((0 : Nat), (12 : Nat), (15 : Nat), (21 : Nat)), ((0 : Nat), (12 : Nat), (19 : Nat), (13 : Nat))]
abbrev Q9_X0_stamp (below : List Frame) (args : Array Value) (s : State) (G : hG) (K : Hp → Int32 → Prop) : State → Prop := MQ below (hx_Qi G K) args s 3 18 (hx_A G)
set_option maxHeartbeats 4000000 in
set_option maxRecDepth 100000 in
theorem wk_X0_stamp (l : Launch) (hst : l.stackTraces = false) {G : hG} {w : Hp} {a0 : Nat} {x1 : Int32} {x2 : Int32} {x3 : Int32} {a4 : Nat} {K : Hp → Int32 → Prop} (h : wp_X0_stamp w a0 x1 x2 x3 a4 K) : hx_Mi l yX0_stamp (ws9_X0_stamp) rm_X0_stamp G w [.ref a0, .int x1, .int x2, .int x3, .ref a4] K 3 18 := by
  refine va_MetW (cc := cX0_stamp) (maxL := 6) (ret := (Option.some Jvm.ClassFile.FieldType.int)) (by decide +kernel) rfl ?_
  intro p e s m args below meth c s₁ B hml hv
  refine hx_in (own := RX0) (av := [.ref a0, .int x1, .int x2, .int x3, .ref a4]) (vl := [(0, va_rf (some a0)), (1, .int x1), (2, .int x2), (3, .int x3), (4, va_rf (some a4))]) rfl rfl (Nat.le_of_ble_eq_true rfl) rfl B hml hv ?_
  intro C0 hU hH hr hlocks hin ls hl
  have hx := C0.1
  have hb := C0.2.1
  have hts := C0.2.2.2.2
  have htab := vx_table (x := yX0_stamp) B (hts _ q999)
  refine hx_aload C0 dX0_stamp_0 (lv_at hl 4 rfl) ?_
  refine lv_iconst (v := 0) hx hb dX0_stamp_2 (by decide) ?_
  refine hx_aload_n C0 dX0_stamp_3 rfl (lv_at hl 0 rfl) ?_
  refine lv_iload_n hx hb dX0_stamp_4 rfl (lv_at hl 1 rfl) ?_
  refine lv_iload_n hx hb dX0_stamp_5 rfl (lv_at hl 2 rfl) ?_
  refine lv_iload_n hx hb dX0_stamp_6 rfl (lv_at hl 3 rfl) ?_
  obtain ⟨ho, h⟩ := h
  refine hx_xVi C0 hU hH (As := [.int x1, .int x2, .int x3]) (wk_X1_stamp l hst h) (cwV 3 hts (lw_V q1000 q1001 q1002 q60 q1003) rfl rfl rfl (by decide +kernel) ⟨Nat.le_of_ble_eq_true rfl, Nat.le_of_ble_eq_true rfl⟩) (hx_recv hU hH (ci := 0) rfl ho) rfl hl.1 rfl (Nat.le_of_ble_eq_true rfl) dX0_stamp_7 ⟨Nat.le_of_ble_eq_true rfl, Nat.le_of_ble_eq_true rfl⟩ (fun E ce q9 w H locs hH hXE h1 h2 h3 => ?_) (fun i_1 w H locs hH h => ?_)
  · rcases hXE with ⟨rfl, h⟩ | ⟨rfl, h⟩
    · refine vx_catch C0.2.2.2.1 (name := eIO) (tableOf []) ⟨0, 12, 15, 21⟩ (tableOf [(0, 12, 19, 13)]) (htab.trans rfl) (List.forall_mem_nil _) rfl (by decide) (hts _ q541) (va_Nw.use rfl (hU.2.2.1 _ q574 rfl)) h1 h2 h3 ?_
      refine hx_astore C0 dX0_stamp_15 hl (by decide) (lv' := [(5, va_rf (some q9)), (0, va_rf (some a0)), (1, .int x1), (2, .int x2), (3, .int x3), (4, va_rf (some a4))]) rfl (fun ls hl => ?_)
      refine lv_iconst (v := 1) hx hb dX0_stamp_17 (by decide) ?_
      exact hx_reti C0 hH hr hlocks h (Nat.le_of_ble_eq_true rfl) (Nat.le_of_ble_eq_true rfl) dX0_stamp_18
    · refine vx_catch C0.2.2.2.1 (name := eIA) (tableOf [(0, 12, 15, 21)]) ⟨0, 12, 19, 13⟩ (tableOf []) (htab.trans rfl) (List.forall_mem_cons.mpr ⟨Or.inr ⟨by decide, eIO, hts _ q541, hU.2.2.2.2.2.2.1 (eIA, eIO) (by decide)⟩, (List.forall_mem_nil _)⟩) rfl (by decide) (hts _ q490) (va_Nw.use rfl (hU.2.2.1 _ q498 rfl)) h1 h2 h3 ?_
      refine hx_astore C0 dX0_stamp_19 hl (by decide) (lv' := [(5, va_rf (some q9)), (0, va_rf (some a0)), (1, .int x1), (2, .int x2), (3, .int x3), (4, va_rf (some a4))]) rfl (fun ls hl => ?_)
      refine lv_iconst (v := 2) hx hb dX0_stamp_21 (by decide) ?_
      exact hx_reti C0 hH hr hlocks h (Nat.le_of_ble_eq_true rfl) (Nat.le_of_ble_eq_true rfl) dX0_stamp_22
  refine lv_i2l hx hb dX0_stamp_10 rfl ?_
  refine hx_sJ C0 hU hH h dX0_stamp_11 (fun w H locs hH h => ?_)
  refine lv_goto hx hb dX0_stamp_12 (tgt := 23) (by decide) ?_
  refine lv_iconst (v := 0) hx hb dX0_stamp_23 (by decide) ?_
  exact hx_reti C0 hH hr hlocks h (Nat.le_of_ble_eq_true rfl) (Nat.le_of_ble_eq_true rfl) dX0_stamp_24
def wp_X0_outs (w : Hp) (a0 : Nat) (x1 : Int32) (a2 : Nat) (K : Hp → Int32 → Prop) : Prop :=
  isO w a0 0 <| wp_X1_outs w a0 x1 (fun w E => (E = eIO ∧ (K w (1 : Int32)))) fun w i_1 => sJ w a2 (0 : Int32) (i_1.toInt64) fun w => K w (0 : Int32)
abbrev rm_X0_outs : Room := { frames := 8, cells := 1, slots := 6, locals := 123 }
abbrev ws9_X0_outs : List Cond := wsW_ yX0_outs cX0_outs 4 (Option.some Jvm.ClassFile.FieldType.int) [((0 : Nat), (9 : Nat), (12 : Nat), (21 : Nat))]
abbrev Q9_X0_outs (below : List Frame) (args : Array Value) (s : State) (G : hG) (K : Hp → Int32 → Prop) : State → Prop := MQ below (hx_Qi G K) args s 1 6 (hx_A G)
set_option maxHeartbeats 4000000 in
set_option maxRecDepth 100000 in
theorem wk_X0_outs (l : Launch) (hst : l.stackTraces = false) {G : hG} {w : Hp} {a0 : Nat} {x1 : Int32} {a2 : Nat} {K : Hp → Int32 → Prop} (h : wp_X0_outs w a0 x1 a2 K) : hx_Mi l yX0_outs (ws9_X0_outs) rm_X0_outs G w [.ref a0, .int x1, .ref a2] K 1 6 := by
  refine va_MetW (cc := cX0_outs) (maxL := 4) (ret := (Option.some Jvm.ClassFile.FieldType.int)) (by decide +kernel) rfl ?_
  intro p e s m args below meth c s₁ B hml hv
  refine hx_in (own := RX0) (av := [.ref a0, .int x1, .ref a2]) (vl := [(0, va_rf (some a0)), (1, .int x1), (2, va_rf (some a2))]) rfl rfl (Nat.le_of_ble_eq_true rfl) rfl B hml hv ?_
  intro C0 hU hH hr hlocks hin ls hl
  have hx := C0.1
  have hb := C0.2.1
  have hts := C0.2.2.2.2
  have htab := vx_table (x := yX0_outs) B (hts _ q1006)
  refine hx_aload_n C0 dX0_outs_0 rfl (lv_at hl 2 rfl) ?_
  refine lv_iconst (v := 0) hx hb dX0_outs_1 (by decide) ?_
  refine hx_aload_n C0 dX0_outs_2 rfl (lv_at hl 0 rfl) ?_
  refine lv_iload_n hx hb dX0_outs_3 rfl (lv_at hl 1 rfl) ?_
  obtain ⟨ho, h⟩ := h
  refine hx_xVi C0 hU hH (As := [.int x1]) (wk_X1_outs l hst h) (cwV 1 hts (lw_V q1007 q1008 q1009 q60 q1010) rfl rfl rfl (by decide +kernel) ⟨Nat.le_of_ble_eq_true rfl, Nat.le_of_ble_eq_true rfl⟩) (hx_recv hU hH (ci := 0) rfl ho) rfl hl.1 rfl (Nat.le_of_ble_eq_true rfl) dX0_outs_4 ⟨Nat.le_of_ble_eq_true rfl, Nat.le_of_ble_eq_true rfl⟩ (fun E ce q9 w H locs hH hXE h1 h2 h3 => ?_) (fun i_1 w H locs hH h => ?_)
  · obtain ⟨rfl, h⟩ := hXE
    refine vx_catch C0.2.2.2.1 (name := eIO) (tableOf []) ⟨0, 9, 12, 21⟩ (tableOf []) (htab.trans rfl) (List.forall_mem_nil _) rfl (by decide) (hts _ q541) (va_Nw.use rfl (hU.2.2.1 _ q574 rfl)) h1 h2 h3 ?_
    refine hx_astore_n C0 dX0_outs_12 rfl hl (by decide) (lv' := [(3, va_rf (some q9)), (0, va_rf (some a0)), (1, .int x1), (2, va_rf (some a2))]) rfl (fun ls hl => ?_)
    refine lv_iconst (v := 1) hx hb dX0_outs_13 (by decide) ?_
    exact hx_reti C0 hH hr hlocks h (Nat.le_of_ble_eq_true rfl) (Nat.le_of_ble_eq_true rfl) dX0_outs_14
  refine lv_i2l hx hb dX0_outs_7 rfl ?_
  refine hx_sJ C0 hU hH h dX0_outs_8 (fun w H locs hH h => ?_)
  refine lv_goto hx hb dX0_outs_9 (tgt := 15) (by decide) ?_
  refine lv_iconst (v := 0) hx hb dX0_outs_15 (by decide) ?_
  exact hx_reti C0 hH hr hlocks h (Nat.le_of_ble_eq_true rfl) (Nat.le_of_ble_eq_true rfl) dX0_outs_16
def wp_X0_out (w : Hp) (a0 : Nat) (x1 : Int32) (x2 : Int32) (x3 : Int32) (a4 : Nat) (K : Hp → Int32 → Prop) : Prop :=
  isO w a0 0 <| wp_X1_out w a0 x1 x2 x3 (fun w E => (E = eIO ∧ (K w (1 : Int32))) ∨ (E = eIA ∧ (K w (2 : Int32)))) fun w i_1 => sJ w a4 (0 : Int32) (i_1.toInt64) fun w => K w (0 : Int32)
abbrev rm_X0_out : Room := { frames := 8, cells := 2, slots := 12, locals := 125 }
abbrev ws9_X0_out : List Cond := wsW_ yX0_out cX0_out 6 (Option.some Jvm.ClassFile.FieldType.int) [((0 : Nat), (12 : Nat), (15 : Nat), (21 : Nat)), ((0 : Nat), (12 : Nat), (19 : Nat), (13 : Nat))]
abbrev Q9_X0_out (below : List Frame) (args : Array Value) (s : State) (G : hG) (K : Hp → Int32 → Prop) : State → Prop := MQ below (hx_Qi G K) args s 2 12 (hx_A G)
set_option maxHeartbeats 4000000 in
set_option maxRecDepth 100000 in
theorem wk_X0_out (l : Launch) (hst : l.stackTraces = false) {G : hG} {w : Hp} {a0 : Nat} {x1 : Int32} {x2 : Int32} {x3 : Int32} {a4 : Nat} {K : Hp → Int32 → Prop} (h : wp_X0_out w a0 x1 x2 x3 a4 K) : hx_Mi l yX0_out (ws9_X0_out) rm_X0_out G w [.ref a0, .int x1, .int x2, .int x3, .ref a4] K 2 12 := by
  refine va_MetW (cc := cX0_out) (maxL := 6) (ret := (Option.some Jvm.ClassFile.FieldType.int)) (by decide +kernel) rfl ?_
  intro p e s m args below meth c s₁ B hml hv
  refine hx_in (own := RX0) (av := [.ref a0, .int x1, .int x2, .int x3, .ref a4]) (vl := [(0, va_rf (some a0)), (1, .int x1), (2, .int x2), (3, .int x3), (4, va_rf (some a4))]) rfl rfl (Nat.le_of_ble_eq_true rfl) rfl B hml hv ?_
  intro C0 hU hH hr hlocks hin ls hl
  have hx := C0.1
  have hb := C0.2.1
  have hts := C0.2.2.2.2
  have htab := vx_table (x := yX0_out) B (hts _ q1013)
  refine hx_aload C0 dX0_out_0 (lv_at hl 4 rfl) ?_
  refine lv_iconst (v := 0) hx hb dX0_out_2 (by decide) ?_
  refine hx_aload_n C0 dX0_out_3 rfl (lv_at hl 0 rfl) ?_
  refine lv_iload_n hx hb dX0_out_4 rfl (lv_at hl 1 rfl) ?_
  refine lv_iload_n hx hb dX0_out_5 rfl (lv_at hl 2 rfl) ?_
  refine lv_iload_n hx hb dX0_out_6 rfl (lv_at hl 3 rfl) ?_
  obtain ⟨ho, h⟩ := h
  refine hx_xVi C0 hU hH (As := [.int x1, .int x2, .int x3]) (wk_X1_out l hst h) (cwV 3 hts (lw_V q1014 q1015 q1016 q60 q1017) rfl rfl rfl (by decide +kernel) ⟨Nat.le_of_ble_eq_true rfl, Nat.le_of_ble_eq_true rfl⟩) (hx_recv hU hH (ci := 0) rfl ho) rfl hl.1 rfl (Nat.le_of_ble_eq_true rfl) dX0_out_7 ⟨Nat.le_of_ble_eq_true rfl, Nat.le_of_ble_eq_true rfl⟩ (fun E ce q9 w H locs hH hXE h1 h2 h3 => ?_) (fun i_1 w H locs hH h => ?_)
  · rcases hXE with ⟨rfl, h⟩ | ⟨rfl, h⟩
    · refine vx_catch C0.2.2.2.1 (name := eIO) (tableOf []) ⟨0, 12, 15, 21⟩ (tableOf [(0, 12, 19, 13)]) (htab.trans rfl) (List.forall_mem_nil _) rfl (by decide) (hts _ q541) (va_Nw.use rfl (hU.2.2.1 _ q574 rfl)) h1 h2 h3 ?_
      refine hx_astore C0 dX0_out_15 hl (by decide) (lv' := [(5, va_rf (some q9)), (0, va_rf (some a0)), (1, .int x1), (2, .int x2), (3, .int x3), (4, va_rf (some a4))]) rfl (fun ls hl => ?_)
      refine lv_iconst (v := 1) hx hb dX0_out_17 (by decide) ?_
      exact hx_reti C0 hH hr hlocks h (Nat.le_of_ble_eq_true rfl) (Nat.le_of_ble_eq_true rfl) dX0_out_18
    · refine vx_catch C0.2.2.2.1 (name := eIA) (tableOf [(0, 12, 15, 21)]) ⟨0, 12, 19, 13⟩ (tableOf []) (htab.trans rfl) (List.forall_mem_cons.mpr ⟨Or.inr ⟨by decide, eIO, hts _ q541, hU.2.2.2.2.2.2.1 (eIA, eIO) (by decide)⟩, (List.forall_mem_nil _)⟩) rfl (by decide) (hts _ q490) (va_Nw.use rfl (hU.2.2.1 _ q498 rfl)) h1 h2 h3 ?_
      refine hx_astore C0 dX0_out_19 hl (by decide) (lv' := [(5, va_rf (some q9)), (0, va_rf (some a0)), (1, .int x1), (2, .int x2), (3, .int x3), (4, va_rf (some a4))]) rfl (fun ls hl => ?_)
      refine lv_iconst (v := 2) hx hb dX0_out_21 (by decide) ?_
      exact hx_reti C0 hH hr hlocks h (Nat.le_of_ble_eq_true rfl) (Nat.le_of_ble_eq_true rfl) dX0_out_22
  refine lv_i2l hx hb dX0_out_10 rfl ?_
  refine hx_sJ C0 hU hH h dX0_out_11 (fun w H locs hH h => ?_)
  refine lv_goto hx hb dX0_out_12 (tgt := 23) (by decide) ?_
  refine lv_iconst (v := 0) hx hb dX0_out_23 (by decide) ?_
  exact hx_reti C0 hH hr hlocks h (Nat.le_of_ble_eq_true rfl) (Nat.le_of_ble_eq_true rfl) dX0_out_24
def wp_X0_drops (w : Hp) (a0 : Nat) (x1 : Int32) (a2 : Nat) (K : Hp → Int32 → Prop) : Prop :=
  isO w a0 0 <| wp_X1_drops w a0 x1 (fun w E => (E = eIA ∧ (K w (1 : Int32)))) fun w i_1 => sJ w a2 (0 : Int32) (i_1.toInt64) fun w => K w (0 : Int32)
abbrev rm_X0_drops : Room := { frames := 7, cells := 1, slots := 6, locals := 103 }
abbrev ws9_X0_drops : List Cond := wsW_ yX0_drops cX0_drops 4 (Option.some Jvm.ClassFile.FieldType.int) [((0 : Nat), (9 : Nat), (12 : Nat), (13 : Nat))]
abbrev Q9_X0_drops (below : List Frame) (args : Array Value) (s : State) (G : hG) (K : Hp → Int32 → Prop) : State → Prop := MQ below (hx_Qi G K) args s 1 6 (hx_A G)
set_option maxHeartbeats 4000000 in
set_option maxRecDepth 100000 in
theorem wk_X0_drops (l : Launch) (hst : l.stackTraces = false) {G : hG} {w : Hp} {a0 : Nat} {x1 : Int32} {a2 : Nat} {K : Hp → Int32 → Prop} (h : wp_X0_drops w a0 x1 a2 K) : hx_Mi l yX0_drops (ws9_X0_drops) rm_X0_drops G w [.ref a0, .int x1, .ref a2] K 1 6 := by
  refine va_MetW (cc := cX0_drops) (maxL := 4) (ret := (Option.some Jvm.ClassFile.FieldType.int)) (by decide +kernel) rfl ?_
  intro p e s m args below meth c s₁ B hml hv
  refine hx_in (own := RX0) (av := [.ref a0, .int x1, .ref a2]) (vl := [(0, va_rf (some a0)), (1, .int x1), (2, va_rf (some a2))]) rfl rfl (Nat.le_of_ble_eq_true rfl) rfl B hml hv ?_
  intro C0 hU hH hr hlocks hin ls hl
  have hx := C0.1
  have hb := C0.2.1
  have hts := C0.2.2.2.2
  have htab := vx_table (x := yX0_drops) B (hts _ q1021)
  refine hx_aload_n C0 dX0_drops_0 rfl (lv_at hl 2 rfl) ?_
  refine lv_iconst (v := 0) hx hb dX0_drops_1 (by decide) ?_
  refine hx_aload_n C0 dX0_drops_2 rfl (lv_at hl 0 rfl) ?_
  refine lv_iload_n hx hb dX0_drops_3 rfl (lv_at hl 1 rfl) ?_
  obtain ⟨ho, h⟩ := h
  refine hx_xVi C0 hU hH (As := [.int x1]) (wk_X1_drops l hst h) (cwV 1 hts (lw_V q1022 q1023 q1024 q60 q1025) rfl rfl rfl (by decide +kernel) ⟨Nat.le_of_ble_eq_true rfl, Nat.le_of_ble_eq_true rfl⟩) (hx_recv hU hH (ci := 0) rfl ho) rfl hl.1 rfl (Nat.le_of_ble_eq_true rfl) dX0_drops_4 ⟨Nat.le_of_ble_eq_true rfl, Nat.le_of_ble_eq_true rfl⟩ (fun E ce q9 w H locs hH hXE h1 h2 h3 => ?_) (fun i_1 w H locs hH h => ?_)
  · obtain ⟨rfl, h⟩ := hXE
    refine vx_catch C0.2.2.2.1 (name := eIA) (tableOf []) ⟨0, 9, 12, 13⟩ (tableOf []) (htab.trans rfl) (List.forall_mem_nil _) rfl (by decide) (hts _ q490) (va_Nw.use rfl (hU.2.2.1 _ q498 rfl)) h1 h2 h3 ?_
    refine hx_astore_n C0 dX0_drops_12 rfl hl (by decide) (lv' := [(3, va_rf (some q9)), (0, va_rf (some a0)), (1, .int x1), (2, va_rf (some a2))]) rfl (fun ls hl => ?_)
    refine lv_iconst (v := 1) hx hb dX0_drops_13 (by decide) ?_
    exact hx_reti C0 hH hr hlocks h (Nat.le_of_ble_eq_true rfl) (Nat.le_of_ble_eq_true rfl) dX0_drops_14
  refine lv_i2l hx hb dX0_drops_7 rfl ?_
  refine hx_sJ C0 hU hH h dX0_drops_8 (fun w H locs hH h => ?_)
  refine lv_goto hx hb dX0_drops_9 (tgt := 15) (by decide) ?_
  refine lv_iconst (v := 0) hx hb dX0_drops_15 (by decide) ?_
  exact hx_reti C0 hH hr hlocks h (Nat.le_of_ble_eq_true rfl) (Nat.le_of_ble_eq_true rfl) dX0_drops_16
def wp_X0_publicOf (w : Hp) (a0 : Nat) (x1 : Int32) (a2 : Nat) (K : Hp → Int32 → Prop) : Prop :=
  isO w a0 0 <| wp_X1_publicOf w a0 x1 (fun w E => (E = eIA ∧ (K w (1 : Int32)))) fun w i_1 => sJ w a2 (0 : Int32) (i_1.toInt64) fun w => K w (0 : Int32)
abbrev rm_X0_publicOf : Room := { frames := 7, cells := 1, slots := 6, locals := 103 }
abbrev ws9_X0_publicOf : List Cond := wsW_ yX0_publicOf cX0_publicOf 4 (Option.some Jvm.ClassFile.FieldType.int) [((0 : Nat), (9 : Nat), (12 : Nat), (13 : Nat))]
abbrev Q9_X0_publicOf (below : List Frame) (args : Array Value) (s : State) (G : hG) (K : Hp → Int32 → Prop) : State → Prop := MQ below (hx_Qi G K) args s 1 6 (hx_A G)
set_option maxHeartbeats 4000000 in
set_option maxRecDepth 100000 in
theorem wk_X0_publicOf (l : Launch) (hst : l.stackTraces = false) {G : hG} {w : Hp} {a0 : Nat} {x1 : Int32} {a2 : Nat} {K : Hp → Int32 → Prop} (h : wp_X0_publicOf w a0 x1 a2 K) : hx_Mi l yX0_publicOf (ws9_X0_publicOf) rm_X0_publicOf G w [.ref a0, .int x1, .ref a2] K 1 6 := by
  refine va_MetW (cc := cX0_publicOf) (maxL := 4) (ret := (Option.some Jvm.ClassFile.FieldType.int)) (by decide +kernel) rfl ?_
  intro p e s m args below meth c s₁ B hml hv
  refine hx_in (own := RX0) (av := [.ref a0, .int x1, .ref a2]) (vl := [(0, va_rf (some a0)), (1, .int x1), (2, va_rf (some a2))]) rfl rfl (Nat.le_of_ble_eq_true rfl) rfl B hml hv ?_
  intro C0 hU hH hr hlocks hin ls hl
  have hx := C0.1
  have hb := C0.2.1
  have hts := C0.2.2.2.2
  have htab := vx_table (x := yX0_publicOf) B (hts _ q1029)
  refine hx_aload_n C0 dX0_publicOf_0 rfl (lv_at hl 2 rfl) ?_
  refine lv_iconst (v := 0) hx hb dX0_publicOf_1 (by decide) ?_
  refine hx_aload_n C0 dX0_publicOf_2 rfl (lv_at hl 0 rfl) ?_
  refine lv_iload_n hx hb dX0_publicOf_3 rfl (lv_at hl 1 rfl) ?_
  obtain ⟨ho, h⟩ := h
  refine hx_xVi C0 hU hH (As := [.int x1]) (wk_X1_publicOf l hst h) (cwV 1 hts (lw_V q1030 q1031 q1032 q60 q1033) rfl rfl rfl (by decide +kernel) ⟨Nat.le_of_ble_eq_true rfl, Nat.le_of_ble_eq_true rfl⟩) (hx_recv hU hH (ci := 0) rfl ho) rfl hl.1 rfl (Nat.le_of_ble_eq_true rfl) dX0_publicOf_4 ⟨Nat.le_of_ble_eq_true rfl, Nat.le_of_ble_eq_true rfl⟩ (fun E ce q9 w H locs hH hXE h1 h2 h3 => ?_) (fun i_1 w H locs hH h => ?_)
  · obtain ⟨rfl, h⟩ := hXE
    refine vx_catch C0.2.2.2.1 (name := eIA) (tableOf []) ⟨0, 9, 12, 13⟩ (tableOf []) (htab.trans rfl) (List.forall_mem_nil _) rfl (by decide) (hts _ q490) (va_Nw.use rfl (hU.2.2.1 _ q498 rfl)) h1 h2 h3 ?_
    refine hx_astore_n C0 dX0_publicOf_12 rfl hl (by decide) (lv' := [(3, va_rf (some q9)), (0, va_rf (some a0)), (1, .int x1), (2, va_rf (some a2))]) rfl (fun ls hl => ?_)
    refine lv_iconst (v := 1) hx hb dX0_publicOf_13 (by decide) ?_
    exact hx_reti C0 hH hr hlocks h (Nat.le_of_ble_eq_true rfl) (Nat.le_of_ble_eq_true rfl) dX0_publicOf_14
  refine lv_i2l hx hb dX0_publicOf_7 rfl ?_
  refine hx_sJ C0 hU hH h dX0_publicOf_8 (fun w H locs hH h => ?_)
  refine lv_goto hx hb dX0_publicOf_9 (tgt := 15) (by decide) ?_
  refine lv_iconst (v := 0) hx hb dX0_publicOf_15 (by decide) ?_
  exact hx_reti C0 hH hr hlocks h (Nat.le_of_ble_eq_true rfl) (Nat.le_of_ble_eq_true rfl) dX0_publicOf_16
def wp_X0_shared (w : Hp) (a0 : Nat) (x1 : Int32) (x2 : Int32) (a3 : Nat) (K : Hp → Int32 → Prop) : Prop :=
  isO w a0 0 <| wp_X1_shared w a0 x1 x2 (fun w E => (E = eIA ∧ (K w (1 : Int32)))) fun w i_1 => sJ w a3 (0 : Int32) (i_1.toInt64) fun w => K w (0 : Int32)
abbrev rm_X0_shared : Room := { frames := 7, cells := 1, slots := 6, locals := 104 }
abbrev ws9_X0_shared : List Cond := wsW_ yX0_shared cX0_shared 5 (Option.some Jvm.ClassFile.FieldType.int) [((0 : Nat), (10 : Nat), (13 : Nat), (13 : Nat))]
abbrev Q9_X0_shared (below : List Frame) (args : Array Value) (s : State) (G : hG) (K : Hp → Int32 → Prop) : State → Prop := MQ below (hx_Qi G K) args s 1 6 (hx_A G)
set_option maxHeartbeats 4000000 in
set_option maxRecDepth 100000 in
theorem wk_X0_shared (l : Launch) (hst : l.stackTraces = false) {G : hG} {w : Hp} {a0 : Nat} {x1 : Int32} {x2 : Int32} {a3 : Nat} {K : Hp → Int32 → Prop} (h : wp_X0_shared w a0 x1 x2 a3 K) : hx_Mi l yX0_shared (ws9_X0_shared) rm_X0_shared G w [.ref a0, .int x1, .int x2, .ref a3] K 1 6 := by
  refine va_MetW (cc := cX0_shared) (maxL := 5) (ret := (Option.some Jvm.ClassFile.FieldType.int)) (by decide +kernel) rfl ?_
  intro p e s m args below meth c s₁ B hml hv
  refine hx_in (own := RX0) (av := [.ref a0, .int x1, .int x2, .ref a3]) (vl := [(0, va_rf (some a0)), (1, .int x1), (2, .int x2), (3, va_rf (some a3))]) rfl rfl (Nat.le_of_ble_eq_true rfl) rfl B hml hv ?_
  intro C0 hU hH hr hlocks hin ls hl
  have hx := C0.1
  have hb := C0.2.1
  have hts := C0.2.2.2.2
  have htab := vx_table (x := yX0_shared) B (hts _ q1038)
  refine hx_aload_n C0 dX0_shared_0 rfl (lv_at hl 3 rfl) ?_
  refine lv_iconst (v := 0) hx hb dX0_shared_1 (by decide) ?_
  refine hx_aload_n C0 dX0_shared_2 rfl (lv_at hl 0 rfl) ?_
  refine lv_iload_n hx hb dX0_shared_3 rfl (lv_at hl 1 rfl) ?_
  refine lv_iload_n hx hb dX0_shared_4 rfl (lv_at hl 2 rfl) ?_
  obtain ⟨ho, h⟩ := h
  refine hx_xVi C0 hU hH (As := [.int x1, .int x2]) (wk_X1_shared l hst h) (cwV 2 hts (lw_V q1039 q1040 q1041 q60 q1042) rfl rfl rfl (by decide +kernel) ⟨Nat.le_of_ble_eq_true rfl, Nat.le_of_ble_eq_true rfl⟩) (hx_recv hU hH (ci := 0) rfl ho) rfl hl.1 rfl (Nat.le_of_ble_eq_true rfl) dX0_shared_5 ⟨Nat.le_of_ble_eq_true rfl, Nat.le_of_ble_eq_true rfl⟩ (fun E ce q9 w H locs hH hXE h1 h2 h3 => ?_) (fun i_1 w H locs hH h => ?_)
  · obtain ⟨rfl, h⟩ := hXE
    refine vx_catch C0.2.2.2.1 (name := eIA) (tableOf []) ⟨0, 10, 13, 13⟩ (tableOf []) (htab.trans rfl) (List.forall_mem_nil _) rfl (by decide) (hts _ q490) (va_Nw.use rfl (hU.2.2.1 _ q498 rfl)) h1 h2 h3 ?_
    refine hx_astore C0 dX0_shared_13 hl (by decide) (lv' := [(4, va_rf (some q9)), (0, va_rf (some a0)), (1, .int x1), (2, .int x2), (3, va_rf (some a3))]) rfl (fun ls hl => ?_)
    refine lv_iconst (v := 1) hx hb dX0_shared_15 (by decide) ?_
    exact hx_reti C0 hH hr hlocks h (Nat.le_of_ble_eq_true rfl) (Nat.le_of_ble_eq_true rfl) dX0_shared_16
  refine lv_i2l hx hb dX0_shared_8 rfl ?_
  refine hx_sJ C0 hU hH h dX0_shared_9 (fun w H locs hH h => ?_)
  refine lv_goto hx hb dX0_shared_10 (tgt := 17) (by decide) ?_
  refine lv_iconst (v := 0) hx hb dX0_shared_17 (by decide) ?_
  exact hx_reti C0 hH hr hlocks h (Nat.le_of_ble_eq_true rfl) (Nat.le_of_ble_eq_true rfl) dX0_shared_18
def wp_X0_seal (w : Hp) (a0 : Nat) (x1 : Int32) (x2 : Int32) (x3 : Int32) (x4 : Int32) (a5 : Nat) (K : Hp → Int32 → Prop) : Prop :=
  isO w a0 0 <| wp_X1_seal w a0 x1 x2 x3 x4 (fun w E => (E = eIA ∧ (K w (1 : Int32)))) fun w i_1 => sJ w a5 (0 : Int32) (i_1.toInt64) fun w => K w (0 : Int32)
abbrev rm_X0_seal : Room := { frames := 7, cells := 1, slots := 6, locals := 106 }
abbrev ws9_X0_seal : List Cond := wsW_ yX0_seal cX0_seal 7 (Option.some Jvm.ClassFile.FieldType.int) [((0 : Nat), (14 : Nat), (17 : Nat), (13 : Nat))]
abbrev Q9_X0_seal (below : List Frame) (args : Array Value) (s : State) (G : hG) (K : Hp → Int32 → Prop) : State → Prop := MQ below (hx_Qi G K) args s 1 6 (hx_A G)
set_option maxHeartbeats 4000000 in
set_option maxRecDepth 100000 in
theorem wk_X0_seal (l : Launch) (hst : l.stackTraces = false) {G : hG} {w : Hp} {a0 : Nat} {x1 : Int32} {x2 : Int32} {x3 : Int32} {x4 : Int32} {a5 : Nat} {K : Hp → Int32 → Prop} (h : wp_X0_seal w a0 x1 x2 x3 x4 a5 K) : hx_Mi l yX0_seal (ws9_X0_seal) rm_X0_seal G w [.ref a0, .int x1, .int x2, .int x3, .int x4, .ref a5] K 1 6 := by
  refine va_MetW (cc := cX0_seal) (maxL := 7) (ret := (Option.some Jvm.ClassFile.FieldType.int)) (by decide +kernel) rfl ?_
  intro p e s m args below meth c s₁ B hml hv
  refine hx_in (own := RX0) (av := [.ref a0, .int x1, .int x2, .int x3, .int x4, .ref a5]) (vl := [(0, va_rf (some a0)), (1, .int x1), (2, .int x2), (3, .int x3), (4, .int x4), (5, va_rf (some a5))]) rfl rfl (Nat.le_of_ble_eq_true rfl) rfl B hml hv ?_
  intro C0 hU hH hr hlocks hin ls hl
  have hx := C0.1
  have hb := C0.2.1
  have hts := C0.2.2.2.2
  have htab := vx_table (x := yX0_seal) B (hts _ q1046)
  refine hx_aload C0 dX0_seal_0 (lv_at hl 5 rfl) ?_
  refine lv_iconst (v := 0) hx hb dX0_seal_2 (by decide) ?_
  refine hx_aload_n C0 dX0_seal_3 rfl (lv_at hl 0 rfl) ?_
  refine lv_iload_n hx hb dX0_seal_4 rfl (lv_at hl 1 rfl) ?_
  refine lv_iload_n hx hb dX0_seal_5 rfl (lv_at hl 2 rfl) ?_
  refine lv_iload_n hx hb dX0_seal_6 rfl (lv_at hl 3 rfl) ?_
  refine lv_iload hx hb dX0_seal_7 (lv_at hl 4 rfl) ?_
  obtain ⟨ho, h⟩ := h
  refine hx_xVi C0 hU hH (As := [.int x1, .int x2, .int x3, .int x4]) (wk_X1_seal l hst h) (cwV 4 hts (lw_V q1047 q1048 q1049 q60 q1050) rfl rfl rfl (by decide +kernel) ⟨Nat.le_of_ble_eq_true rfl, Nat.le_of_ble_eq_true rfl⟩) (hx_recv hU hH (ci := 0) rfl ho) rfl hl.1 rfl (Nat.le_of_ble_eq_true rfl) dX0_seal_9 ⟨Nat.le_of_ble_eq_true rfl, Nat.le_of_ble_eq_true rfl⟩ (fun E ce q9 w H locs hH hXE h1 h2 h3 => ?_) (fun i_1 w H locs hH h => ?_)
  · obtain ⟨rfl, h⟩ := hXE
    refine vx_catch C0.2.2.2.1 (name := eIA) (tableOf []) ⟨0, 14, 17, 13⟩ (tableOf []) (htab.trans rfl) (List.forall_mem_nil _) rfl (by decide) (hts _ q490) (va_Nw.use rfl (hU.2.2.1 _ q498 rfl)) h1 h2 h3 ?_
    refine hx_astore C0 dX0_seal_17 hl (by decide) (lv' := [(6, va_rf (some q9)), (0, va_rf (some a0)), (1, .int x1), (2, .int x2), (3, .int x3), (4, .int x4), (5, va_rf (some a5))]) rfl (fun ls hl => ?_)
    refine lv_iconst (v := 1) hx hb dX0_seal_19 (by decide) ?_
    exact hx_reti C0 hH hr hlocks h (Nat.le_of_ble_eq_true rfl) (Nat.le_of_ble_eq_true rfl) dX0_seal_20
  refine lv_i2l hx hb dX0_seal_12 rfl ?_
  refine hx_sJ C0 hU hH h dX0_seal_13 (fun w H locs hH h => ?_)
  refine lv_goto hx hb dX0_seal_14 (tgt := 21) (by decide) ?_
  refine lv_iconst (v := 0) hx hb dX0_seal_21 (by decide) ?_
  exact hx_reti C0 hH hr hlocks h (Nat.le_of_ble_eq_true rfl) (Nat.le_of_ble_eq_true rfl) dX0_seal_22
