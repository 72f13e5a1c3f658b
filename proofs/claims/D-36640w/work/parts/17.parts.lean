/-! Table, Side, Letter, Flight, Session (printed by gen/gen.py: weakest preconditions and walks) -/
set_option maxRecDepth 100000
def wp_X2_init (w : Hp) (a0 : Nat) (K : Hp → Prop) : Prop :=
  nI_ w (8 : Int32) 8 fun w b_1 => pV w a0 1 0 (va_rf (some b_1)) fun w => nI_ w (8 : Int32) 8 fun w b_2 => pV w a0 1 1 (va_rf (some b_2)) fun w => nI_ w (8 : Int32) 8 fun w b_3 => pV w a0 1 2 (va_rf (some b_3)) fun w => K w
abbrev rm_X2_init : Room := { frames := 1, cells := 3, slots := 24, locals := 12 }
abbrev ws9_X2_init : List Cond := ws_ yX2_init cX2_init 1 none
abbrev Q9_X2_init (below : List Frame) (args : Array Value) (s : State) (G : hG) (K : Hp → Prop) : State → Prop := MQ below (hx_Qv G K) args s 3 24 (hx_A G)
set_option maxHeartbeats 4000000 in
set_option maxRecDepth 100000 in
theorem wk_X2_init (l : Launch) {G : hG} {w : Hp} {a0 : Nat} {K : Hp → Prop} (h : wp_X2_init w a0 K) : hx_Mv l yX2_init (ws9_X2_init) rm_X2_init G w [.ref a0] K 3 24 := by
  refine Met.ofW (cc := cX2_init) (maxL := 1) (ret := none) (by decide +kernel) rfl ?_
  intro p e s m args below meth c s₁ B hml hv
  refine hx_in (own := RX2) (av := [.ref a0]) (vl := [(0, va_rf (some a0))]) rfl rfl (Nat.le_of_ble_eq_true rfl) rfl B hml hv ?_
  intro C0 hU hH hr hlocks hin ls hl
  have hx := C0.1
  have hb := C0.2.1
  have hts := C0.2.2.2.2
  refine hx_aload_n C0 dX2_init_0 rfl (lv_at hl 0 rfl) ?_
  refine W.objInit hx hb C0.2.2.2.1 (hts _ q136) (hts _ q93) (hts _ q94) rfl (by rw [C0.2.2.1]; exact hl.1) rfl dX2_init_1 (Nat.le_of_ble_eq_true rfl) (Nat.le_of_ble_eq_true rfl) ?_
  refine W.eq (g2 := F0 m 4 ls []) rfl ?_
  refine hx_aload_n C0 dX2_init_4 rfl (lv_at hl 0 rfl) ?_
  refine lv_bipush (v := 8) hx hb dX2_init_5 (by decide) ?_
  refine hx_nI C0 hU hH (Nat.le_of_ble_eq_true rfl) (Nat.le_of_ble_eq_true rfl) (Nat.le_of_ble_eq_true rfl) h dX2_init_7 (fun b_1 w H locs hH h => ?_)
  refine hx_pV C0 hU hH (ci := 1) rfl in_X2 tyX2 tyX2_ok nmX2 0 (by decide) q137 (fun _ h9 => h9) (Or.inr ⟨rfl, hin rfl, rfl⟩) (hx_fa _ _).1 (hx_fa _ _).2 h dX2_init_9 (fun w H locs hH h => ?_)
  refine hx_aload_n C0 dX2_init_12 rfl (lv_at hl 0 rfl) ?_
  refine lv_bipush (v := 8) hx hb dX2_init_13 (by decide) ?_
  refine hx_nI C0 hU hH (Nat.le_of_ble_eq_true rfl) (Nat.le_of_ble_eq_true rfl) (Nat.le_of_ble_eq_true rfl) h dX2_init_15 (fun b_2 w H locs hH h => ?_)
  refine hx_pV C0 hU hH (ci := 1) rfl in_X2 tyX2 tyX2_ok nmX2 1 (by decide) q139 (fun _ h9 => h9) (Or.inr ⟨rfl, hin rfl, rfl⟩) (hx_fa _ _).1 (hx_fa _ _).2 h dX2_init_17 (fun w H locs hH h => ?_)
  refine hx_aload_n C0 dX2_init_20 rfl (lv_at hl 0 rfl) ?_
  refine lv_bipush (v := 8) hx hb dX2_init_21 (by decide) ?_
  refine hx_nI C0 hU hH (Nat.le_of_ble_eq_true rfl) (Nat.le_of_ble_eq_true rfl) (Nat.le_of_ble_eq_true rfl) h dX2_init_23 (fun b_3 w H locs hH h => ?_)
  refine hx_pV C0 hU hH (ci := 1) rfl in_X2 tyX2 tyX2_ok nmX2 2 (by decide) q141 (fun _ h9 => h9) (Or.inr ⟨rfl, hin rfl, rfl⟩) (hx_fa _ _).1 (hx_fa _ _).2 h dX2_init_25 (fun w H locs hH h => ?_)
  exact hx_retv C0 hH hr hlocks h (Nat.le_of_ble_eq_true rfl) (Nat.le_of_ble_eq_true rfl) dX2_init_28
def wp_X2_place_b30 (K : Hp → Int32 → Prop) (bk2 : Hp → Nat → Int32 → Int32 → Int32 → Prop) (w : Hp) (a0 : Nat) (x1 : Int32) (x2 : Int32) (x3 : Int32) : Prop :=
  nm (x3 + 1) fun i_1 => bk2 w a0 x1 x2 i_1
def wp_X2_place_s2 (K : Hp → Int32 → Prop)  (bk2 : Hp → Nat → Int32 → Int32 → Int32 → Prop) (w : Hp) (a0 : Nat) (x1 : Int32) (x2 : Int32) (x3 : Int32) : Prop :=
  gI w a0 1 3 fun i_1 => br (i_1 ≤ x3) (K w x3) (gR w a0 1 0 fun r_3 => dR r_3 fun b_4 => aI w b_4 x3 fun i_5 => br (i_5 = x1) (gR w a0 1 1 fun r_7 => dR r_7 fun b_8 => aI w b_8 x3 fun i_9 => br (i_9 = x2) (K w x3) (wp_X2_place_b30 K bk2 w a0 x1 x2 x3)) (wp_X2_place_b30 K bk2 w a0 x1 x2 x3))
def wp_X2_place_l2 (K : Hp → Int32 → Prop)  : ((Hp × Nat × Int32 × Int32 × Int32) → Prop) → (Hp × Nat × Int32 × Int32 × Int32) → Prop := fun bk q => wp_X2_place_s2 K  (fun w a0 x1 x2 x3 => bk (w, a0, x1, x2, x3)) q.1 q.2.1 q.2.2.1 q.2.2.2.1 q.2.2.2.2
def wp_X2_place_b2 (K : Hp → Int32 → Prop)  (w : Hp) (a0 : Nat) (x1 : Int32) (x2 : Int32) (x3 : Int32) : Prop := lp (wp_X2_place_l2 K ) (w, a0, x1, x2, x3)
def wp_X2_place (w : Hp) (a0 : Nat) (x1 : Int32) (x2 : Int32) (K : Hp → Int32 → Prop) : Prop :=
  wp_X2_place_b2 K w a0 x1 x2 (0 : Int32)
abbrev rm_X2_place : Room := { frames := 0, cells := 0, slots := 0, locals := 0 }
abbrev ws9_X2_place : List Cond := ws_ yX2_place cX2_place 4 (Option.some Jvm.ClassFile.FieldType.int)
abbrev Q9_X2_place (below : List Frame) (args : Array Value) (s : State) (G : hG) (K : Hp → Int32 → Prop) : State → Prop := MQ below (hx_Qi G K) args s 0 0 (hx_A G)
set_option maxHeartbeats 4000000 in
set_option maxRecDepth 100000 in
theorem wk_X2_place (l : Launch) {G : hG} {w : Hp} {a0 : Nat} {x1 : Int32} {x2 : Int32} {K : Hp → Int32 → Prop} (h : wp_X2_place w a0 x1 x2 K) : hx_Mi l yX2_place (ws9_X2_place) rm_X2_place G w [.ref a0, .int x1, .int x2] K 0 0 := by
  refine Met.ofW (cc := cX2_place) (maxL := 4) (ret := (Option.some Jvm.ClassFile.FieldType.int)) (by decide +kernel) rfl ?_
  intro p e s m args below meth c s₁ B hml hv
  refine hx_in (own := RX2) (av := [.ref a0, .int x1, .int x2]) (vl := [(0, va_rf (some a0)), (1, .int x1), (2, .int x2)]) rfl rfl (Nat.le_of_ble_eq_true rfl) rfl B hml hv ?_
  intro C0 hU hH hr hlocks hin ls hl
  have hx := C0.1
  have hb := C0.2.1
  have hts := C0.2.2.2.2
  have L2 : ∀ (n2 : Nat) (w : Hp) (a0 : Nat) (x1 : Int32) (x2 : Int32) (x3 : Int32), lpN (wp_X2_place_l2 K ) n2 (w, a0, x1, x2, x3) → ∀ (H : Heap) (locs : List Loc) (ls : Array Slot), hx_H G w s H locs → lv_has ls 4 [(0, va_rf (some a0)), (1, .int x1), (2, .int x2), (3, .int x3)] → W p l e (headSpec (ws9_X2_place) rm_X2_place).room s m args below meth c H locs (0) (0) (Q9_X2_place below args s G K) (F0 m 2 ls []) := by
    intro n2
    induction n2 with
    | zero => intro w a0 x1 x2 x3 h; exact h.elim
    | succ n2 ih2 =>
      intro w a0 x1 x2 x3 h H locs ls hH hl
      have h : wp_X2_place_s2 K  (fun w a0 x1 x2 x3 => lpN (wp_X2_place_l2 K ) n2 (w, a0, x1, x2, x3)) w a0 x1 x2 x3 := h
      have b30 : ∀ (w : Hp) (a0 : Nat) (x1 : Int32) (x2 : Int32) (x3 : Int32), wp_X2_place_b30 K (fun w a0 x1 x2 x3 => lpN (wp_X2_place_l2 K ) n2 (w, a0, x1, x2, x3)) w a0 x1 x2 x3 → ∀ (H : Heap) (locs : List Loc) (ls : Array Slot), hx_H G w s H locs → lv_has ls 4 [(0, va_rf (some a0)), (1, .int x1), (2, .int x2), (3, .int x3)] → W p l e (headSpec (ws9_X2_place) rm_X2_place).room s m args below meth c H locs (0) (0) (Q9_X2_place below args s G K) (F0 m 30 ls []) := by
        intro w a0 x1 x2 x3 h H locs ls hH hl
        obtain ⟨i_1, ei_1⟩ : ∃ z, z = x3 + 1 := ⟨_, rfl⟩
        have h := h i_1 ei_1
        refine lv_iinc (k := 3) hx hb dX2_place_30 hl rfl (v := i_1) (by rw [ei_1]; rfl) (by decide) (lv' := [(3, .int i_1), (0, va_rf (some a0)), (1, .int x1), (2, .int x2)]) rfl (fun ls hl => ?_)
        refine lv_goto hx hb dX2_place_33 (tgt := 2) (by decide) ?_
        refine W.widen (k := 0) (n := 0) (Nat.le_of_ble_eq_true rfl) (Nat.le_of_ble_eq_true rfl) ?_
        exact ih2 _ _ _ _ _ h _ _ _ hH (lv_sub hl [1, 2, 3, 0] rfl)
      refine lv_iload_n hx hb dX2_place_2 rfl (lv_at hl 3 rfl) ?_
      refine hx_aload_n C0 dX2_place_3 rfl (lv_at hl 0 rfl) ?_
      refine hx_gI C0 hU hH (ci := 1) rfl in_X2 3 (by decide) q143 (fun _ h9 => h9) h dX2_place_4 (fun i_1 h => ?_)
      refine lv_icmp_ge hx hb dX2_place_7 (tgt := 36) (by decide) (fun c_2 => ?_) (fun c_2 => ?_)
      · have h := h.1 c_2
        refine lv_iload_n hx hb dX2_place_36 rfl (lv_at hl 3 rfl) ?_
        exact hx_reti C0 hH hr hlocks h (Nat.le_of_ble_eq_true rfl) (Nat.le_of_ble_eq_true rfl) dX2_place_37
      · have h := h.2 c_2
        refine hx_aload_n C0 dX2_place_10 rfl (lv_at hl 0 rfl) ?_
        refine hx_gR C0 hU hH (ci := 1) rfl in_X2 0 (by decide) q137 (fun _ h9 => h9) h dX2_place_11 (fun r_3 h => ?_)
        refine lv_iload_n hx hb dX2_place_14 rfl (lv_at hl 3 rfl) ?_
        obtain ⟨b_4, rfl, h9⟩ := h
        have h := h9
        clear h9
        refine hx_aI C0 hU hH h dX2_place_15 (fun i_5 h => ?_)
        refine lv_iload_n hx hb dX2_place_16 rfl (lv_at hl 1 rfl) ?_
        refine lv_icmp_ne hx hb dX2_place_17 (tgt := 30) (by decide) (fun c_6 => ?_) (fun c_6 => ?_)
        · have h := h.2 c_6
          refine W.widen (k := 0) (n := 0) (Nat.le_of_ble_eq_true rfl) (Nat.le_of_ble_eq_true rfl) ?_
          exact b30 _ _ _ _ _ h _ _ _ hH (lv_sub hl [0, 1, 2, 3] rfl)
        · have h := h.1 c_6
          refine hx_aload_n C0 dX2_place_20 rfl (lv_at hl 0 rfl) ?_
          refine hx_gR C0 hU hH (ci := 1) rfl in_X2 1 (by decide) q139 (fun _ h9 => h9) h dX2_place_21 (fun r_7 h => ?_)
          refine lv_iload_n hx hb dX2_place_24 rfl (lv_at hl 3 rfl) ?_
          obtain ⟨b_8, rfl, h9⟩ := h
          have h := h9
          clear h9
          refine hx_aI C0 hU hH h dX2_place_25 (fun i_9 h => ?_)
          refine lv_iload_n hx hb dX2_place_26 rfl (lv_at hl 2 rfl) ?_
          refine lv_icmp_eq hx hb dX2_place_27 (tgt := 36) (by decide) (fun c_10 => ?_) (fun c_10 => ?_)
          · have h := h.1 c_10
            refine lv_iload_n hx hb dX2_place_36 rfl (lv_at hl 3 rfl) ?_
            exact hx_reti C0 hH hr hlocks h (Nat.le_of_ble_eq_true rfl) (Nat.le_of_ble_eq_true rfl) dX2_place_37
          · have h := h.2 c_10
            refine W.widen (k := 0) (n := 0) (Nat.le_of_ble_eq_true rfl) (Nat.le_of_ble_eq_true rfl) ?_
            exact b30 _ _ _ _ _ h _ _ _ hH (lv_sub hl [0, 1, 2, 3] rfl)
  refine lv_iconst (v := 0) hx hb dX2_place_0 (by decide) ?_
  refine lv_istore_n hx hb dX2_place_1 rfl hl (by decide) (lv' := [(3, .int (0 : Int32)), (0, va_rf (some a0)), (1, .int x1), (2, .int x2)]) rfl (fun ls hl => ?_)
  obtain ⟨n9, h⟩ := h
  refine W.widen (k := 0) (n := 0) (Nat.le_of_ble_eq_true rfl) (Nat.le_of_ble_eq_true rfl) ?_
  exact L2 n9 _ _ _ _ _ h _ _ _ hH (lv_sub hl [1, 2, 3, 0] rfl)
def wp_X2_route_b53 (K : Hp → Int32 → Prop) (bk4 : Hp → Nat → Int32 → Int32 → Int32 → Prop) (w : Hp) (a0 : Nat) (x1 : Int32) (x2 : Int32) (x3 : Int32) : Prop :=
  nm (x3 + 1) fun i_1 => bk4 w a0 x1 x2 i_1
def wp_X2_route_b51 (K : Hp → Int32 → Prop) (bk4 : Hp → Nat → Int32 → Int32 → Int32 → Prop) (w : Hp) (a0 : Nat) (x1 : Int32) (x3 : Int32) : Prop :=
  wp_X2_route_b53 K bk4 w a0 x1 x3 x3
def wp_X2_route_s4 (K : Hp → Int32 → Prop)  (bk4 : Hp → Nat → Int32 → Int32 → Int32 → Prop) (w : Hp) (a0 : Nat) (x1 : Int32) (x2 : Int32) (x3 : Int32) : Prop :=
  gI w a0 1 3 fun i_1 => br (i_1 ≤ x3) (br (x2 = (-1 : Int32)) (K w (-1 : Int32)) (gR w a0 1 2 fun r_4 => dR r_4 fun b_5 => aI w b_5 x2 fun i_6 => K w i_6)) (gR w a0 1 1 fun r_7 => dR r_7 fun b_8 => aI w b_8 x3 fun i_9 => wp_X1_cut w x1 i_9 fun w i_10 => gR w a0 1 0 fun r_11 => dR r_11 fun b_12 => aI w b_12 x3 fun i_13 => br (i_10 = i_13) (br (x2 = (-1 : Int32)) (wp_X2_route_b51 K bk4 w a0 x1 x3) (gR w a0 1 1 fun r_16 => dR r_16 fun b_17 => aI w b_17 x3 fun i_18 => gR w a0 1 1 fun r_19 => dR r_19 fun b_20 => aI w b_20 x2 fun i_21 => br (i_18 ≤ i_21) (wp_X2_route_b53 K bk4 w a0 x1 x2 x3) (wp_X2_route_b51 K bk4 w a0 x1 x3))) (wp_X2_route_b53 K bk4 w a0 x1 x2 x3))
def wp_X2_route_l4 (K : Hp → Int32 → Prop)  : ((Hp × Nat × Int32 × Int32 × Int32) → Prop) → (Hp × Nat × Int32 × Int32 × Int32) → Prop := fun bk q => wp_X2_route_s4 K  (fun w a0 x1 x2 x3 => bk (w, a0, x1, x2, x3)) q.1 q.2.1 q.2.2.1 q.2.2.2.1 q.2.2.2.2
def wp_X2_route_b4 (K : Hp → Int32 → Prop)  (w : Hp) (a0 : Nat) (x1 : Int32) (x2 : Int32) (x3 : Int32) : Prop := lp (wp_X2_route_l4 K ) (w, a0, x1, x2, x3)
def wp_X2_route (w : Hp) (a0 : Nat) (x1 : Int32) (K : Hp → Int32 → Prop) : Prop :=
  wp_X2_route_b4 K w a0 x1 (-1 : Int32) (0 : Int32)
abbrev rm_X2_route : Room := { frames := 1, cells := 0, slots := 0, locals := 21 }
abbrev ws9_X2_route : List Cond := ws_ yX2_route cX2_route 4 (Option.some Jvm.ClassFile.FieldType.int)
abbrev Q9_X2_route (below : List Frame) (args : Array Value) (s : State) (G : hG) (K : Hp → Int32 → Prop) : State → Prop := MQ below (hx_Qi G K) args s 0 0 (hx_A G)
set_option maxHeartbeats 4000000 in
set_option maxRecDepth 100000 in
theorem wk_X2_route (l : Launch) {G : hG} {w : Hp} {a0 : Nat} {x1 : Int32} {K : Hp → Int32 → Prop} (h : wp_X2_route w a0 x1 K) : hx_Mi l yX2_route (ws9_X2_route) rm_X2_route G w [.ref a0, .int x1] K 0 0 := by
  refine Met.ofW (cc := cX2_route) (maxL := 4) (ret := (Option.some Jvm.ClassFile.FieldType.int)) (by decide +kernel) rfl ?_
  intro p e s m args below meth c s₁ B hml hv
  refine hx_in (own := RX2) (av := [.ref a0, .int x1]) (vl := [(0, va_rf (some a0)), (1, .int x1)]) rfl rfl (Nat.le_of_ble_eq_true rfl) rfl B hml hv ?_
  intro C0 hU hH hr hlocks hin ls hl
  have hx := C0.1
  have hb := C0.2.1
  have hts := C0.2.2.2.2
  have L4 : ∀ (n4 : Nat) (w : Hp) (a0 : Nat) (x1 : Int32) (x2 : Int32) (x3 : Int32), lpN (wp_X2_route_l4 K ) n4 (w, a0, x1, x2, x3) → ∀ (H : Heap) (locs : List Loc) (ls : Array Slot), hx_H G w s H locs → lv_has ls 4 [(0, va_rf (some a0)), (1, .int x1), (2, .int x2), (3, .int x3)] → W p l e (headSpec (ws9_X2_route) rm_X2_route).room s m args below meth c H locs (0) (0) (Q9_X2_route below args s G K) (F0 m 4 ls []) := by
    intro n4
    induction n4 with
    | zero => intro w a0 x1 x2 x3 h; exact h.elim
    | succ n4 ih4 =>
      intro w a0 x1 x2 x3 h H locs ls hH hl
      have h : wp_X2_route_s4 K  (fun w a0 x1 x2 x3 => lpN (wp_X2_route_l4 K ) n4 (w, a0, x1, x2, x3)) w a0 x1 x2 x3 := h
      have b53 : ∀ (w : Hp) (a0 : Nat) (x1 : Int32) (x2 : Int32) (x3 : Int32), wp_X2_route_b53 K (fun w a0 x1 x2 x3 => lpN (wp_X2_route_l4 K ) n4 (w, a0, x1, x2, x3)) w a0 x1 x2 x3 → ∀ (H : Heap) (locs : List Loc) (ls : Array Slot), hx_H G w s H locs → lv_has ls 4 [(0, va_rf (some a0)), (1, .int x1), (2, .int x2), (3, .int x3)] → W p l e (headSpec (ws9_X2_route) rm_X2_route).room s m args below meth c H locs (0) (0) (Q9_X2_route below args s G K) (F0 m 53 ls []) := by
        intro w a0 x1 x2 x3 h H locs ls hH hl
        obtain ⟨i_1, ei_1⟩ : ∃ z, z = x3 + 1 := ⟨_, rfl⟩
        have h := h i_1 ei_1
        refine lv_iinc (k := 3) hx hb dX2_route_53 hl rfl (v := i_1) (by rw [ei_1]; rfl) (by decide) (lv' := [(3, .int i_1), (0, va_rf (some a0)), (1, .int x1), (2, .int x2)]) rfl (fun ls hl => ?_)
        refine lv_goto hx hb dX2_route_56 (tgt := 4) (by decide) ?_
        refine W.widen (k := 0) (n := 0) (Nat.le_of_ble_eq_true rfl) (Nat.le_of_ble_eq_true rfl) ?_
        exact ih4 _ _ _ _ _ h _ _ _ hH (lv_sub hl [1, 2, 3, 0] rfl)
      have b51 : ∀ (w : Hp) (a0 : Nat) (x1 : Int32) (x3 : Int32), wp_X2_route_b51 K (fun w a0 x1 x2 x3 => lpN (wp_X2_route_l4 K ) n4 (w, a0, x1, x2, x3)) w a0 x1 x3 → ∀ (H : Heap) (locs : List Loc) (ls : Array Slot), hx_H G w s H locs → lv_has ls 4 [(0, va_rf (some a0)), (1, .int x1), (3, .int x3)] → W p l e (headSpec (ws9_X2_route) rm_X2_route).room s m args below meth c H locs (0) (0) (Q9_X2_route below args s G K) (F0 m 51 ls []) := by
        intro w a0 x1 x3 h H locs ls hH hl
        refine lv_iload_n hx hb dX2_route_51 rfl (lv_at hl 2 rfl) ?_
        refine lv_istore_n hx hb dX2_route_52 rfl hl (by decide) (lv' := [(2, .int x3), (0, va_rf (some a0)), (1, .int x1), (3, .int x3)]) rfl (fun ls hl => ?_)
        refine W.widen (k := 0) (n := 0) (Nat.le_of_ble_eq_true rfl) (Nat.le_of_ble_eq_true rfl) ?_
        exact b53 _ _ _ _ _ h _ _ _ hH (lv_sub hl [1, 2, 0, 3] rfl)
      refine lv_iload_n hx hb dX2_route_4 rfl (lv_at hl 3 rfl) ?_
      refine hx_aload_n C0 dX2_route_5 rfl (lv_at hl 0 rfl) ?_
      refine hx_gI C0 hU hH (ci := 1) rfl in_X2 3 (by decide) q143 (fun _ h9 => h9) h dX2_route_6 (fun i_1 h => ?_)
      refine lv_icmp_ge hx hb dX2_route_9 (tgt := 59) (by decide) (fun c_2 => ?_) (fun c_2 => ?_)
      · have h := h.1 c_2
        refine lv_iload_n hx hb dX2_route_59 rfl (lv_at hl 2 rfl) ?_
        refine lv_iconst (v := -1) hx hb dX2_route_60 (by decide) ?_
        refine lv_icmp_ne hx hb dX2_route_61 (tgt := 68) (by decide) (fun c_3 => ?_) (fun c_3 => ?_)
        · have h := h.2 c_3
          refine hx_aload_n C0 dX2_route_68 rfl (lv_at hl 0 rfl) ?_
          refine hx_gR C0 hU hH (ci := 1) rfl in_X2 2 (by decide) q141 (fun _ h9 => h9) h dX2_route_69 (fun r_4 h => ?_)
          refine lv_iload_n hx hb dX2_route_72 rfl (lv_at hl 2 rfl) ?_
          obtain ⟨b_5, rfl, h9⟩ := h
          have h := h9
          clear h9
          refine hx_aI C0 hU hH h dX2_route_73 (fun i_6 h => ?_)
          exact hx_reti C0 hH hr hlocks h (Nat.le_of_ble_eq_true rfl) (Nat.le_of_ble_eq_true rfl) dX2_route_74
        · have h := h.1 c_3
          refine lv_iconst (v := -1) hx hb dX2_route_64 (by decide) ?_
          refine lv_goto hx hb dX2_route_65 (tgt := 74) (by decide) ?_
          exact hx_reti C0 hH hr hlocks h (Nat.le_of_ble_eq_true rfl) (Nat.le_of_ble_eq_true rfl) dX2_route_74
      · have h := h.2 c_2
        refine lv_iload_n hx hb dX2_route_12 rfl (lv_at hl 1 rfl) ?_
        refine hx_aload_n C0 dX2_route_13 rfl (lv_at hl 0 rfl) ?_
        refine hx_gR C0 hU hH (ci := 1) rfl in_X2 1 (by decide) q139 (fun _ h9 => h9) h dX2_route_14 (fun r_7 h => ?_)
        refine lv_iload_n hx hb dX2_route_17 rfl (lv_at hl 3 rfl) ?_
        obtain ⟨b_8, rfl, h9⟩ := h
        have h := h9
        clear h9
        refine hx_aI C0 hU hH h dX2_route_18 (fun i_9 h => ?_)
        refine hx_SNi C0 hU hH (As := [.int x1, .int i_9]) (wk_X1_cut l h) ⟨va_cnB 2 hts (lw_meth q603) rfl rfl rfl (hU.2.2.1 _ q634 rfl) (hts _ q60) (by decide +kernel) ⟨Nat.le_of_ble_eq_true rfl, Nat.le_of_ble_eq_true rfl⟩, hts _ q602, trivial⟩ rfl hl.1 rfl (Nat.le_of_ble_eq_true rfl) dX2_route_19 ⟨Nat.le_of_ble_eq_true rfl, Nat.le_of_ble_eq_true rfl⟩ (fun i_10 w H locs hH h => ?_)
        refine hx_aload_n C0 dX2_route_22 rfl (lv_at hl 0 rfl) ?_
        refine hx_gR C0 hU hH (ci := 1) rfl in_X2 0 (by decide) q137 (fun _ h9 => h9) h dX2_route_23 (fun r_11 h => ?_)
        refine lv_iload_n hx hb dX2_route_26 rfl (lv_at hl 3 rfl) ?_
        obtain ⟨b_12, rfl, h9⟩ := h
        have h := h9
        clear h9
        refine hx_aI C0 hU hH h dX2_route_27 (fun i_13 h => ?_)
        refine lv_icmp_ne hx hb dX2_route_28 (tgt := 53) (by decide) (fun c_14 => ?_) (fun c_14 => ?_)
        · have h := h.2 c_14
          refine W.widen (k := 0) (n := 0) (Nat.le_of_ble_eq_true rfl) (Nat.le_of_ble_eq_true rfl) ?_
          exact b53 _ _ _ _ _ h _ _ _ hH (lv_sub hl [0, 1, 2, 3] rfl)
        · have h := h.1 c_14
          refine lv_iload_n hx hb dX2_route_31 rfl (lv_at hl 2 rfl) ?_
          refine lv_iconst (v := -1) hx hb dX2_route_32 (by decide) ?_
          refine lv_icmp_eq hx hb dX2_route_33 (tgt := 51) (by decide) (fun c_15 => ?_) (fun c_15 => ?_)
          · have h := h.1 c_15
            refine W.widen (k := 0) (n := 0) (Nat.le_of_ble_eq_true rfl) (Nat.le_of_ble_eq_true rfl) ?_
            exact b51 _ _ _ _ h _ _ _ hH (lv_sub hl [0, 1, 3] rfl)
          · have h := h.2 c_15
            refine hx_aload_n C0 dX2_route_36 rfl (lv_at hl 0 rfl) ?_
            refine hx_gR C0 hU hH (ci := 1) rfl in_X2 1 (by decide) q139 (fun _ h9 => h9) h dX2_route_37 (fun r_16 h => ?_)
            refine lv_iload_n hx hb dX2_route_40 rfl (lv_at hl 3 rfl) ?_
            obtain ⟨b_17, rfl, h9⟩ := h
            have h := h9
            clear h9
            refine hx_aI C0 hU hH h dX2_route_41 (fun i_18 h => ?_)
            refine hx_aload_n C0 dX2_route_42 rfl (lv_at hl 0 rfl) ?_
            refine hx_gR C0 hU hH (ci := 1) rfl in_X2 1 (by decide) q139 (fun _ h9 => h9) h dX2_route_43 (fun r_19 h => ?_)
            refine lv_iload_n hx hb dX2_route_46 rfl (lv_at hl 2 rfl) ?_
            obtain ⟨b_20, rfl, h9⟩ := h
            have h := h9
            clear h9
            refine hx_aI C0 hU hH h dX2_route_47 (fun i_21 h => ?_)
            refine lv_icmp_le hx hb dX2_route_48 (tgt := 53) (by decide) (fun c_22 => ?_) (fun c_22 => ?_)
            · have h := h.1 c_22
              refine W.widen (k := 0) (n := 0) (Nat.le_of_ble_eq_true rfl) (Nat.le_of_ble_eq_true rfl) ?_
              exact b53 _ _ _ _ _ h _ _ _ hH (lv_sub hl [0, 1, 2, 3] rfl)
            · have h := h.2 c_22
              refine W.widen (k := 0) (n := 0) (Nat.le_of_ble_eq_true rfl) (Nat.le_of_ble_eq_true rfl) ?_
              exact b51 _ _ _ _ h _ _ _ hH (lv_sub hl [0, 1, 3] rfl)
  refine lv_iconst (v := -1) hx hb dX2_route_0 (by decide) ?_
  refine lv_istore_n hx hb dX2_route_1 rfl hl (by decide) (lv' := [(2, .int (-1 : Int32)), (0, va_rf (some a0)), (1, .int x1)]) rfl (fun ls hl => ?_)
  refine lv_iconst (v := 0) hx hb dX2_route_2 (by decide) ?_
  refine lv_istore_n hx hb dX2_route_3 rfl hl (by decide) (lv' := [(3, .int (0 : Int32)), (2, .int (-1 : Int32)), (0, va_rf (some a0)), (1, .int x1)]) rfl (fun ls hl => ?_)
  obtain ⟨n9, h⟩ := h
  refine W.widen (k := 0) (n := 0) (Nat.le_of_ble_eq_true rfl) (Nat.le_of_ble_eq_true rfl) ?_
  exact L4 n9 _ _ _ _ _ h _ _ _ hH (lv_sub hl [2, 3, 1, 0] rfl)
def wp_X3_init (w : Hp) (a0 : Nat) (x1 : Int32) (K : Hp → Prop) : Prop :=
  pV w a0 2 7 (.int (-1 : Int32)) fun w => nMk [4, 3] 7 w fun w b_1 => pV w a0 2 9 (va_rf (some b_1)) fun w => pV w a0 2 0 (.int x1) fun w => K w
abbrev rm_X3_init : Room := { frames := 1, cells := 5, slots := 16, locals := 12 }
abbrev ws9_X3_init : List Cond := ws_ yX3_init cX3_init 2 none
abbrev Q9_X3_init (below : List Frame) (args : Array Value) (s : State) (G : hG) (K : Hp → Prop) : State → Prop := MQ below (hx_Qv G K) args s 5 16 (hx_A G)
set_option maxHeartbeats 4000000 in
set_option maxRecDepth 100000 in
theorem wk_X3_init (l : Launch) {G : hG} {w : Hp} {a0 : Nat} {x1 : Int32} {K : Hp → Prop} (h : wp_X3_init w a0 x1 K) : hx_Mv l yX3_init (ws9_X3_init) rm_X3_init G w [.ref a0, .int x1] K 5 16 := by
  refine Met.ofW (cc := cX3_init) (maxL := 2) (ret := none) (by decide +kernel) rfl ?_
  intro p e s m args below meth c s₁ B hml hv
  refine hx_in (own := RX3) (av := [.ref a0, .int x1]) (vl := [(0, va_rf (some a0)), (1, .int x1)]) rfl rfl (Nat.le_of_ble_eq_true rfl) rfl B hml hv ?_
  intro C0 hU hH hr hlocks hin ls hl
  have hx := C0.1
  have hb := C0.2.1
  have hts := C0.2.2.2.2
  refine hx_aload_n C0 dX3_init_0 rfl (lv_at hl 0 rfl) ?_
  refine W.objInit hx hb C0.2.2.2.1 (hts _ q220) (hts _ q93) (hts _ q94) rfl (by rw [C0.2.2.1]; exact hl.1) rfl dX3_init_1 (Nat.le_of_ble_eq_true rfl) (Nat.le_of_ble_eq_true rfl) ?_
  refine W.eq (g2 := F0 m 4 ls []) rfl ?_
  refine hx_aload_n C0 dX3_init_4 rfl (lv_at hl 0 rfl) ?_
  refine lv_iconst (v := -1) hx hb dX3_init_5 (by decide) ?_
  refine hx_pV C0 hU hH (ci := 2) rfl in_X3 tyX3 tyX3_ok nmX3 7 (by decide) q234 (fun _ h9 => h9) (Or.inl rfl) rfl rfl h dX3_init_6 (fun w H locs hH h => ?_)
  refine hx_aload_n C0 dX3_init_9 rfl (lv_at hl 0 rfl) ?_
  refine lv_iconst (v := 4) hx hb dX3_init_10 (by decide) ?_
  refine lv_iconst (v := 3) hx hb dX3_init_11 (by decide) ?_
  refine hx_nM2 C0 hU hH 7 4 3 rfl (hU.1.2 7 _ rfl).2 q221 h (Nat.le_of_ble_eq_true rfl) (Nat.le_of_ble_eq_true rfl) dX3_init_12 (fun b_1 w H locs hH h => ?_)
  refine hx_pV C0 hU hH (ci := 2) rfl in_X3 tyX3 tyX3_ok nmX3 9 (by decide) q237 (fun _ h9 => h9) (Or.inr ⟨rfl, hin rfl, rfl⟩) (hx_fa _ _).1 (hx_fa _ _).2 h dX3_init_16 (fun w H locs hH h => ?_)
  refine hx_aload_n C0 dX3_init_19 rfl (lv_at hl 0 rfl) ?_
  refine lv_iload_n hx hb dX3_init_20 rfl (lv_at hl 1 rfl) ?_
  refine hx_pV C0 hU hH (ci := 2) rfl in_X3 tyX3 tyX3_ok nmX3 0 (by decide) q223 (fun _ h9 => h9) (Or.inl rfl) rfl rfl h dX3_init_21 (fun w H locs hH h => ?_)
  exact hx_retv C0 hH hr hlocks h (Nat.le_of_ble_eq_true rfl) (Nat.le_of_ble_eq_true rfl) dX3_init_24
def wp_X3_session (w : Hp) (a0 : Nat) (x1 : Int32) (K : Hp → Option Nat → Prop) : Prop :=
  br (x1 = 0) (gR w a0 2 1 fun r_5 => K w r_5) (br (x1 = (1 : Int32)) (gR w a0 2 2 fun r_4 => K w r_4) (gR w a0 2 3 fun r_3 => K w r_3))
abbrev rm_X3_session : Room := { frames := 0, cells := 0, slots := 0, locals := 0 }
abbrev ws9_X3_session : List Cond := ws_ yX3_session cX3_session 2 (Option.some (Jvm.ClassFile.FieldType.object "Burrowline$Session"))
abbrev Q9_X3_session (below : List Frame) (args : Array Value) (s : State) (G : hG) (K : Hp → Option Nat → Prop) : State → Prop := MQ below (hx_Qq G K) args s 0 0 (hx_A G)
set_option maxHeartbeats 4000000 in
set_option maxRecDepth 100000 in
theorem wk_X3_session (l : Launch) {G : hG} {w : Hp} {a0 : Nat} {x1 : Int32} {K : Hp → Option Nat → Prop} (h : wp_X3_session w a0 x1 K) : hx_Mq l yX3_session (ws9_X3_session) rm_X3_session G w [.ref a0, .int x1] K 0 0 := by
  refine Met.ofW (cc := cX3_session) (maxL := 2) (ret := (Option.some (Jvm.ClassFile.FieldType.object "Burrowline$Session"))) (by decide +kernel) rfl ?_
  intro p e s m args below meth c s₁ B hml hv
  refine hx_in (own := RX3) (av := [.ref a0, .int x1]) (vl := [(0, va_rf (some a0)), (1, .int x1)]) rfl rfl (Nat.le_of_ble_eq_true rfl) rfl B hml hv ?_
  intro C0 hU hH hr hlocks hin ls hl
  have hx := C0.1
  have hb := C0.2.1
  have hts := C0.2.2.2.2
  refine lv_iload_n hx hb dX3_session_0 rfl (lv_at hl 1 rfl) ?_
  refine lv_if_ne hx hb dX3_session_1 (tgt := 11) (by decide) (fun c_1 => ?_) (fun c_1 => ?_)
  · have h := h.2 c_1
    refine lv_iload_n hx hb dX3_session_11 rfl (lv_at hl 1 rfl) ?_
    refine lv_iconst (v := 1) hx hb dX3_session_12 (by decide) ?_
    refine lv_icmp_ne hx hb dX3_session_13 (tgt := 23) (by decide) (fun c_2 => ?_) (fun c_2 => ?_)
    · have h := h.2 c_2
      refine hx_aload_n C0 dX3_session_23 rfl (lv_at hl 0 rfl) ?_
      refine hx_gR C0 hU hH (ci := 2) rfl in_X3 3 (by decide) q229 (fun _ h9 => h9) h dX3_session_24 (fun r_3 h => ?_)
      exact hx_retq (v := r_3) C0 hH hr (Or.inl ⟨_, rfl⟩) hlocks h (Nat.le_of_ble_eq_true rfl) (Nat.le_of_ble_eq_true rfl) dX3_session_27
    · have h := h.1 c_2
      refine hx_aload_n C0 dX3_session_16 rfl (lv_at hl 0 rfl) ?_
      refine hx_gR C0 hU hH (ci := 2) rfl in_X3 2 (by decide) q227 (fun _ h9 => h9) h dX3_session_17 (fun r_4 h => ?_)
      refine lv_goto hx hb dX3_session_20 (tgt := 27) (by decide) ?_
      exact hx_retq (v := r_4) C0 hH hr (Or.inl ⟨_, rfl⟩) hlocks h (Nat.le_of_ble_eq_true rfl) (Nat.le_of_ble_eq_true rfl) dX3_session_27
  · have h := h.1 c_1
    refine hx_aload_n C0 dX3_session_4 rfl (lv_at hl 0 rfl) ?_
    refine hx_gR C0 hU hH (ci := 2) rfl in_X3 1 (by decide) q225 (fun _ h9 => h9) h dX3_session_5 (fun r_5 h => ?_)
    refine lv_goto hx hb dX3_session_8 (tgt := 27) (by decide) ?_
    exact hx_retq (v := r_5) C0 hH hr (Or.inl ⟨_, rfl⟩) hlocks h (Nat.le_of_ble_eq_true rfl) (Nat.le_of_ble_eq_true rfl) dX3_session_27
def wp_X3_first_s19 (K : Hp → Option Nat → Prop)  (bk19 : Hp → Nat → Option Nat → Int32 → Prop) (w : Hp) (a0 : Nat) (r1 : Option Nat) (x2 : Int32) : Prop :=
  gI w a0 2 10 fun i_1 => br (i_1 ≤ x2) (K w r1) (gR w a0 2 9 fun r_3 => gR w a0 2 9 fun r_4 => dR r_4 fun b_5 => aR w b_5 (x2 + (1 : Int32)) fun r_6 => dR r_3 fun b_7 => sR w b_7 x2 r_6 fun w => nm (x2 + 1) fun i_8 => bk19 w a0 r1 i_8)
def wp_X3_first_l19 (K : Hp → Option Nat → Prop)  : ((Hp × Nat × Option Nat × Int32) → Prop) → (Hp × Nat × Option Nat × Int32) → Prop := fun bk q => wp_X3_first_s19 K  (fun w a0 r1 x2 => bk (w, a0, r1, x2)) q.1 q.2.1 q.2.2.1 q.2.2.2
def wp_X3_first_b19 (K : Hp → Option Nat → Prop)  (w : Hp) (a0 : Nat) (r1 : Option Nat) (x2 : Int32) : Prop := lp (wp_X3_first_l19 K ) (w, a0, r1, x2)
def wp_X3_first (w : Hp) (a0 : Nat) (K : Hp → Option Nat → Prop) : Prop :=
  gR w a0 2 9 fun r_1 => dR r_1 fun b_2 => aR w b_2 (0 : Int32) fun r_3 => gI w a0 2 10 fun i_4 => pV w a0 2 10 (.int (i_4 - (1 : Int32))) fun w => wp_X3_first_b19 K w a0 r_3 (0 : Int32)
abbrev rm_X3_first : Room := { frames := 0, cells := 0, slots := 0, locals := 0 }
abbrev ws9_X3_first : List Cond := ws_ yX3_first cX3_first 3 (Option.some (Jvm.ClassFile.FieldType.array Jvm.ClassFile.FieldType.int))
abbrev Q9_X3_first (below : List Frame) (args : Array Value) (s : State) (G : hG) (K : Hp → Option Nat → Prop) : State → Prop := MQ below (hx_Qq G K) args s 0 0 (hx_A G)
set_option maxHeartbeats 4000000 in
set_option maxRecDepth 100000 in
theorem wk_X3_first (l : Launch) {G : hG} {w : Hp} {a0 : Nat} {K : Hp → Option Nat → Prop} (h : wp_X3_first w a0 K) : hx_Mq l yX3_first (ws9_X3_first) rm_X3_first G w [.ref a0] K 0 0 := by
  refine Met.ofW (cc := cX3_first) (maxL := 3) (ret := (Option.some (Jvm.ClassFile.FieldType.array Jvm.ClassFile.FieldType.int))) (by decide +kernel) rfl ?_
  intro p e s m args below meth c s₁ B hml hv
  refine hx_in (own := RX3) (av := [.ref a0]) (vl := [(0, va_rf (some a0))]) rfl rfl (Nat.le_of_ble_eq_true rfl) rfl B hml hv ?_
  intro C0 hU hH hr hlocks hin ls hl
  have hx := C0.1
  have hb := C0.2.1
  have hts := C0.2.2.2.2
  have L19 : ∀ (n19 : Nat) (w : Hp) (a0 : Nat) (r1 : Option Nat) (x2 : Int32), lpN (wp_X3_first_l19 K ) n19 (w, a0, r1, x2) → ∀ (H : Heap) (locs : List Loc) (ls : Array Slot), hx_H G w s H locs → lv_has ls 3 [(0, va_rf (some a0)), (1, va_rf r1), (2, .int x2)] → W p l e (headSpec (ws9_X3_first) rm_X3_first).room s m args below meth c H locs (0) (0) (Q9_X3_first below args s G K) (F0 m 19 ls []) := by
    intro n19
    induction n19 with
    | zero => intro w a0 r1 x2 h; exact h.elim
    | succ n19 ih19 =>
      intro w a0 r1 x2 h H locs ls hH hl
      have h : wp_X3_first_s19 K  (fun w a0 r1 x2 => lpN (wp_X3_first_l19 K ) n19 (w, a0, r1, x2)) w a0 r1 x2 := h
      refine lv_iload_n hx hb dX3_first_19 rfl (lv_at hl 2 rfl) ?_
      refine hx_aload_n C0 dX3_first_20 rfl (lv_at hl 0 rfl) ?_
      refine hx_gI C0 hU hH (ci := 2) rfl in_X3 10 (by decide) q238 (fun _ h9 => h9) h dX3_first_21 (fun i_1 h => ?_)
      refine lv_icmp_ge hx hb dX3_first_24 (tgt := 47) (by decide) (fun c_2 => ?_) (fun c_2 => ?_)
      · have h := h.1 c_2
        refine hx_aload_n C0 dX3_first_47 rfl (lv_at hl 1 rfl) ?_
        exact hx_retq (v := r1) C0 hH hr (Or.inr ⟨_, rfl⟩) hlocks h (Nat.le_of_ble_eq_true rfl) (Nat.le_of_ble_eq_true rfl) dX3_first_48
      · have h := h.2 c_2
        refine hx_aload_n C0 dX3_first_27 rfl (lv_at hl 0 rfl) ?_
        refine hx_gR C0 hU hH (ci := 2) rfl in_X3 9 (by decide) q237 (fun _ h9 => h9) h dX3_first_28 (fun r_3 h => ?_)
        refine lv_iload_n hx hb dX3_first_31 rfl (lv_at hl 2 rfl) ?_
        refine hx_aload_n C0 dX3_first_32 rfl (lv_at hl 0 rfl) ?_
        refine hx_gR C0 hU hH (ci := 2) rfl in_X3 9 (by decide) q237 (fun _ h9 => h9) h dX3_first_33 (fun r_4 h => ?_)
        refine lv_iload_n hx hb dX3_first_36 rfl (lv_at hl 2 rfl) ?_
        refine lv_iconst (v := 1) hx hb dX3_first_37 (by decide) ?_
        refine lv_iadd hx hb dX3_first_38 ?_
        obtain ⟨b_5, rfl, h9⟩ := h
        have h := h9
        clear h9
        refine hx_aR C0 hU hH h dX3_first_39 (fun r_6 h => ?_)
        obtain ⟨b_7, rfl, h9⟩ := h
        have h := h9
        clear h9
        refine hx_sR C0 hU hH h dX3_first_40 (fun w H locs hH h => ?_)
        obtain ⟨i_8, ei_8⟩ : ∃ z, z = x2 + 1 := ⟨_, rfl⟩
        have h := h i_8 ei_8
        refine lv_iinc (k := 2) hx hb dX3_first_41 hl rfl (v := i_8) (by rw [ei_8]; rfl) (by decide) (lv' := [(2, .int i_8), (0, va_rf (some a0)), (1, va_rf r1)]) (by cases r1 <;> rfl) (fun ls hl => ?_)
        refine lv_goto hx hb dX3_first_44 (tgt := 19) (by decide) ?_
        refine W.widen (k := 0) (n := 0) (Nat.le_of_ble_eq_true rfl) (Nat.le_of_ble_eq_true rfl) ?_
        exact ih19 _ _ _ _ h _ _ _ hH (lv_sub hl [1, 2, 0] rfl)
  refine hx_aload_n C0 dX3_first_0 rfl (lv_at hl 0 rfl) ?_
  refine hx_gR C0 hU hH (ci := 2) rfl in_X3 9 (by decide) q237 (fun _ h9 => h9) h dX3_first_1 (fun r_1 h => ?_)
  refine lv_iconst (v := 0) hx hb dX3_first_4 (by decide) ?_
  obtain ⟨b_2, rfl, h9⟩ := h
  have h := h9
  clear h9
  refine hx_aR C0 hU hH h dX3_first_5 (fun r_3 h => ?_)
  refine hx_astore_n C0 dX3_first_6 rfl hl (by decide) (lv' := [(1, va_rf r_3), (0, va_rf (some a0))]) rfl (fun ls hl => ?_)
  refine hx_aload_n C0 dX3_first_7 rfl (lv_at hl 1 rfl) ?_
  refine lv_dup hx hb dX3_first_8 rfl ?_
  refine hx_gI C0 hU hH (ci := 2) rfl in_X3 10 (by decide) q238 (fun _ h9 => h9) h dX3_first_9 (fun i_4 h => ?_)
  refine lv_iconst (v := 1) hx hb dX3_first_12 (by decide) ?_
  refine lv_isub hx hb dX3_first_13 ?_
  refine hx_pV C0 hU hH (ci := 2) rfl in_X3 tyX3 tyX3_ok nmX3 10 (by decide) q238 (fun _ h9 => h9) (Or.inl rfl) rfl rfl h dX3_first_14 (fun w H locs hH h => ?_)
  refine lv_iconst (v := 0) hx hb dX3_first_17 (by decide) ?_
  refine lv_istore_n hx hb dX3_first_18 rfl hl (by decide) (lv' := [(2, .int (0 : Int32)), (1, va_rf r_3), (0, va_rf (some a0))]) (by cases r_3 <;> rfl) (fun ls hl => ?_)
  obtain ⟨n9, h⟩ := h
  refine W.widen (k := 0) (n := 0) (Nat.le_of_ble_eq_true rfl) (Nat.le_of_ble_eq_true rfl) ?_
  exact L19 n9 _ _ _ _ h _ _ _ hH (lv_sub hl [2, 1, 0] rfl)
def wp_X3_wait_b13 (K : Hp → Prop)  (w : Hp) (a0 : Nat) (x1 : Int32) (x2 : Int32) (x3 : Int32) : Prop :=
  gR w a0 2 9 fun r_1 => gI w a0 2 10 fun i_2 => nI_ w (3 : Int32) 3 fun w b_3 => sI w b_3 (0 : Int32) x1 fun w => sI w b_3 (1 : Int32) x2 fun w => sI w b_3 (2 : Int32) x3 fun w => dR r_1 fun b_4 => sR w b_4 i_2 (some b_3) fun w => gI w a0 2 10 fun i_5 => pV w a0 2 10 (.int (i_5 + (1 : Int32))) fun w => K w
def wp_X3_wait (w : Hp) (a0 : Nat) (x1 : Int32) (x2 : Int32) (x3 : Int32) (K : Hp → Prop) : Prop :=
  gI w a0 2 10 fun i_1 => br (i_1 = (4 : Int32)) (isO w a0 2 <| wp_X3_first w a0 fun w r_3 => wp_X3_wait_b13 K w a0 x1 x2 x3) (wp_X3_wait_b13 K w a0 x1 x2 x3)
abbrev rm_X3_wait : Room := { frames := 1, cells := 1, slots := 3, locals := 22 }
abbrev ws9_X3_wait : List Cond := ws_ yX3_wait cX3_wait 4 none
abbrev Q9_X3_wait (below : List Frame) (args : Array Value) (s : State) (G : hG) (K : Hp → Prop) : State → Prop := MQ below (hx_Qv G K) args s 1 3 (hx_A G)
set_option maxHeartbeats 4000000 in
set_option maxRecDepth 100000 in
theorem wk_X3_wait (l : Launch) {G : hG} {w : Hp} {a0 : Nat} {x1 : Int32} {x2 : Int32} {x3 : Int32} {K : Hp → Prop} (h : wp_X3_wait w a0 x1 x2 x3 K) : hx_Mv l yX3_wait (ws9_X3_wait) rm_X3_wait G w [.ref a0, .int x1, .int x2, .int x3] K 1 3 := by
  refine Met.ofW (cc := cX3_wait) (maxL := 4) (ret := none) (by decide +kernel) rfl ?_
  intro p e s m args below meth c s₁ B hml hv
  refine hx_in (own := RX3) (av := [.ref a0, .int x1, .int x2, .int x3]) (vl := [(0, va_rf (some a0)), (1, .int x1), (2, .int x2), (3, .int x3)]) rfl rfl (Nat.le_of_ble_eq_true rfl) rfl B hml hv ?_
  intro C0 hU hH hr hlocks hin ls hl
  have hx := C0.1
  have hb := C0.2.1
  have hts := C0.2.2.2.2
  have b13 : ∀ (w : Hp) (a0 : Nat) (x1 : Int32) (x2 : Int32) (x3 : Int32), wp_X3_wait_b13 K  w a0 x1 x2 x3 → ∀ (H : Heap) (locs : List Loc) (ls : Array Slot), hx_H G w s H locs → lv_has ls 4 [(0, va_rf (some a0)), (1, .int x1), (2, .int x2), (3, .int x3)] → W p l e (headSpec (ws9_X3_wait) rm_X3_wait).room s m args below meth c H locs (0) (0) (Q9_X3_wait below args s G K) (F0 m 13 ls []) := by
    intro w a0 x1 x2 x3 h H locs ls hH hl
    refine hx_aload_n C0 dX3_wait_13 rfl (lv_at hl 0 rfl) ?_
    refine hx_gR C0 hU hH (ci := 2) rfl in_X3 9 (by decide) q237 (fun _ h9 => h9) h dX3_wait_14 (fun r_1 h => ?_)
    refine hx_aload_n C0 dX3_wait_17 rfl (lv_at hl 0 rfl) ?_
    refine hx_gI C0 hU hH (ci := 2) rfl in_X3 10 (by decide) q238 (fun _ h9 => h9) h dX3_wait_18 (fun i_2 h => ?_)
    refine lv_iconst (v := 3) hx hb dX3_wait_21 (by decide) ?_
    refine hx_nI C0 hU hH (Nat.le_of_ble_eq_true rfl) (Nat.le_of_ble_eq_true rfl) (Nat.le_of_ble_eq_true rfl) h dX3_wait_22 (fun b_3 w H locs hH h => ?_)
    refine lv_dup hx hb dX3_wait_24 rfl ?_
    refine lv_iconst (v := 0) hx hb dX3_wait_25 (by decide) ?_
    refine lv_iload_n hx hb dX3_wait_26 rfl (lv_at hl 1 rfl) ?_
    refine hx_sI C0 hU hH h dX3_wait_27 (fun w H locs hH h => ?_)
    refine lv_dup hx hb dX3_wait_28 rfl ?_
    refine lv_iconst (v := 1) hx hb dX3_wait_29 (by decide) ?_
    refine lv_iload_n hx hb dX3_wait_30 rfl (lv_at hl 2 rfl) ?_
    refine hx_sI C0 hU hH h dX3_wait_31 (fun w H locs hH h => ?_)
    refine lv_dup hx hb dX3_wait_32 rfl ?_
    refine lv_iconst (v := 2) hx hb dX3_wait_33 (by decide) ?_
    refine lv_iload_n hx hb dX3_wait_34 rfl (lv_at hl 3 rfl) ?_
    refine hx_sI C0 hU hH h dX3_wait_35 (fun w H locs hH h => ?_)
    obtain ⟨b_4, rfl, h9⟩ := h
    have h := h9
    clear h9
    refine hx_sR C0 hU hH h dX3_wait_36 (fun w H locs hH h => ?_)
    refine hx_aload_n C0 dX3_wait_37 rfl (lv_at hl 0 rfl) ?_
    refine lv_dup hx hb dX3_wait_38 rfl ?_
    refine hx_gI C0 hU hH (ci := 2) rfl in_X3 10 (by decide) q238 (fun _ h9 => h9) h dX3_wait_39 (fun i_5 h => ?_)
    refine lv_iconst (v := 1) hx hb dX3_wait_42 (by decide) ?_
    refine lv_iadd hx hb dX3_wait_43 ?_
    refine hx_pV C0 hU hH (ci := 2) rfl in_X3 tyX3 tyX3_ok nmX3 10 (by decide) q238 (fun _ h9 => h9) (Or.inl rfl) rfl rfl h dX3_wait_44 (fun w H locs hH h => ?_)
    exact hx_retv C0 hH hr hlocks h (Nat.le_of_ble_eq_true rfl) (Nat.le_of_ble_eq_true rfl) dX3_wait_47
  refine hx_aload_n C0 dX3_wait_0 rfl (lv_at hl 0 rfl) ?_
  refine hx_gI C0 hU hH (ci := 2) rfl in_X3 10 (by decide) q238 (fun _ h9 => h9) h dX3_wait_1 (fun i_1 h => ?_)
  refine lv_iconst (v := 4) hx hb dX3_wait_4 (by decide) ?_
  refine lv_icmp_ne hx hb dX3_wait_5 (tgt := 13) (by decide) (fun c_2 => ?_) (fun c_2 => ?_)
  · have h := h.2 c_2
    refine W.widen (k := 0) (n := 0) (Nat.le_of_ble_eq_true rfl) (Nat.le_of_ble_eq_true rfl) ?_
    exact b13 _ _ _ _ _ h _ _ _ hH (lv_sub hl [0, 1, 2, 3] rfl)
  · have h := h.1 c_2
    refine hx_aload_n C0 dX3_wait_8 rfl (lv_at hl 0 rfl) ?_
    obtain ⟨ho, h⟩ := h
    refine hx_Vq C0 hU hH (As := []) (wk_X3_first l h) (cwV 0 hts (lw_V q742 q744 qs19 q70 q745) rfl rfl rfl (by decide +kernel) ⟨Nat.le_of_ble_eq_true rfl, Nat.le_of_ble_eq_true rfl⟩) (hx_recv hU hH (ci := 2) rfl ho) rfl hl.1 rfl (Nat.le_of_ble_eq_true rfl) dX3_wait_9 ⟨Nat.le_of_ble_eq_true rfl, Nat.le_of_ble_eq_true rfl⟩ (fun r_3 w H locs hH h => ?_)
    refine lv_pop hx hb dX3_wait_12 (hx_rfc _) ?_
    refine W.widen (k := 0) (n := 0) (Nat.le_of_ble_eq_true rfl) (Nat.le_of_ble_eq_true rfl) ?_
    exact b13 _ _ _ _ _ h _ _ _ hH (lv_sub hl [0, 1, 2, 3] rfl)
def wp_X5_isTurned (w : Hp) (a0 : Nat) (K : Hp → Int32 → Prop) : Prop :=
  gI w a0 4 5 fun i_1 => br (i_1 = (-1 : Int32)) (K w (0 : Int32)) (gR w a0 4 4 fun r_3 => gI w a0 4 5 fun i_4 => dR r_3 fun b_5 => aI w b_5 i_4 fun i_6 => gI w a0 4 6 fun i_7 => br (i_6 = i_7) (K w (0 : Int32)) (K w (1 : Int32)))
abbrev rm_X5_isTurned : Room := { frames := 0, cells := 0, slots := 0, locals := 0 }
abbrev ws9_X5_isTurned : List Cond := ws_ yX5_isTurned cX5_isTurned 1 (Option.some Jvm.ClassFile.FieldType.boolean)
abbrev Q9_X5_isTurned (below : List Frame) (args : Array Value) (s : State) (G : hG) (K : Hp → Int32 → Prop) : State → Prop := MQ below (hx_Qi G K) args s 0 0 (hx_A G)
set_option maxHeartbeats 4000000 in
set_option maxRecDepth 100000 in
theorem wk_X5_isTurned (l : Launch) {G : hG} {w : Hp} {a0 : Nat} {K : Hp → Int32 → Prop} (h : wp_X5_isTurned w a0 K) : hx_Mi l yX5_isTurned (ws9_X5_isTurned) rm_X5_isTurned G w [.ref a0] K 0 0 := by
  refine Met.ofW (cc := cX5_isTurned) (maxL := 1) (ret := (Option.some Jvm.ClassFile.FieldType.boolean)) (by decide +kernel) rfl ?_
  intro p e s m args below meth c s₁ B hml hv
  refine hx_in (own := RX5) (av := [.ref a0]) (vl := [(0, va_rf (some a0))]) rfl rfl (Nat.le_of_ble_eq_true rfl) rfl B hml hv ?_
  intro C0 hU hH hr hlocks hin ls hl
  have hx := C0.1
  have hb := C0.2.1
  have hts := C0.2.2.2.2
  refine hx_aload_n C0 dX5_isTurned_0 rfl (lv_at hl 0 rfl) ?_
  refine hx_gI C0 hU hH (ci := 4) rfl in_X5 5 (by decide) q662 (fun _ h9 => h9) h dX5_isTurned_1 (fun i_1 h => ?_)
  refine lv_iconst (v := -1) hx hb dX5_isTurned_4 (by decide) ?_
  refine lv_icmp_eq hx hb dX5_isTurned_5 (tgt := 28) (by decide) (fun c_2 => ?_) (fun c_2 => ?_)
  · have h := h.1 c_2
    refine lv_iconst (v := 0) hx hb dX5_isTurned_28 (by decide) ?_
    exact hx_retz C0 hH hr hlocks (Or.inl rfl) h (Nat.le_of_ble_eq_true rfl) (Nat.le_of_ble_eq_true rfl) dX5_isTurned_29
  · have h := h.2 c_2
    refine hx_aload_n C0 dX5_isTurned_8 rfl (lv_at hl 0 rfl) ?_
    refine hx_gR C0 hU hH (ci := 4) rfl in_X5 4 (by decide) q660 (fun _ h9 => h9) h dX5_isTurned_9 (fun r_3 h => ?_)
    refine hx_aload_n C0 dX5_isTurned_12 rfl (lv_at hl 0 rfl) ?_
    refine hx_gI C0 hU hH (ci := 4) rfl in_X5 5 (by decide) q662 (fun _ h9 => h9) h dX5_isTurned_13 (fun i_4 h => ?_)
    obtain ⟨b_5, rfl, h9⟩ := h
    have h := h9
    clear h9
    refine hx_aI C0 hU hH h dX5_isTurned_16 (fun i_6 h => ?_)
    refine hx_aload_n C0 dX5_isTurned_17 rfl (lv_at hl 0 rfl) ?_
    refine hx_gI C0 hU hH (ci := 4) rfl in_X5 6 (by decide) q664 (fun _ h9 => h9) h dX5_isTurned_18 (fun i_7 h => ?_)
    refine lv_icmp_eq hx hb dX5_isTurned_21 (tgt := 28) (by decide) (fun c_8 => ?_) (fun c_8 => ?_)
    · have h := h.1 c_8
      refine lv_iconst (v := 0) hx hb dX5_isTurned_28 (by decide) ?_
      exact hx_retz C0 hH hr hlocks (Or.inl rfl) h (Nat.le_of_ble_eq_true rfl) (Nat.le_of_ble_eq_true rfl) dX5_isTurned_29
    · have h := h.2 c_8
      refine lv_iconst (v := 1) hx hb dX5_isTurned_24 (by decide) ?_
      refine lv_goto hx hb dX5_isTurned_25 (tgt := 29) (by decide) ?_
      exact hx_retz C0 hH hr hlocks (Or.inr rfl) h (Nat.le_of_ble_eq_true rfl) (Nat.le_of_ble_eq_true rfl) dX5_isTurned_29
def wp_X5_isRight (w : Hp) (a0 : Nat) (K : Hp → Int32 → Prop) : Prop :=
  gR w a0 4 4 fun r_1 => gI w a0 4 2 fun i_2 => br (i_2 = 1) (dR r_1 fun b_3 => aI w b_3 (4 : Int32) fun i_4 => gI w a0 4 3 fun i_5 => nI_ w (5 : Int32) 5 fun w b_6 => sI w b_6 (0 : Int32) (1 : Int32) fun w => aI w b_3 (0 : Int32) fun i_7 => sI w b_6 (1 : Int32) i_7 fun w => aI w b_3 (1 : Int32) fun i_8 => sI w b_6 (2 : Int32) i_8 fun w => aI w b_3 (2 : Int32) fun i_9 => sI w b_6 (3 : Int32) i_9 fun w => aI w b_3 (3 : Int32) fun i_10 => sI w b_6 (4 : Int32) i_10 fun w => wp_X1_sealOf w i_5 b_6 fun w i_11 => br (i_4 = i_11) (K w (1 : Int32)) (K w (0 : Int32))) (br (i_2 = 2) (dR r_1 fun b_14 => aI w b_14 (3 : Int32) fun i_15 => gI w a0 4 3 fun i_16 => nI_ w (4 : Int32) 4 fun w b_17 => sI w b_17 (0 : Int32) (2 : Int32) fun w => aI w b_14 (0 : Int32) fun i_18 => sI w b_17 (1 : Int32) i_18 fun w => aI w b_14 (1 : Int32) fun i_19 => sI w b_17 (2 : Int32) i_19 fun w => aI w b_14 (2 : Int32) fun i_20 => sI w b_17 (3 : Int32) i_20 fun w => wp_X1_sealOf w i_16 b_17 fun w i_21 => br (i_15 = i_21) (K w (1 : Int32)) (K w (0 : Int32))) (br (i_2 = 3) (dR r_1 fun b_24 => aI w b_24 (2 : Int32) fun i_25 => gI w a0 4 3 fun i_26 => nI_ w (3 : Int32) 3 fun w b_27 => sI w b_27 (0 : Int32) (3 : Int32) fun w => aI w b_24 (0 : Int32) fun i_28 => sI w b_27 (1 : Int32) i_28 fun w => aI w b_24 (1 : Int32) fun i_29 => sI w b_27 (2 : Int32) i_29 fun w => wp_X1_sealOf w i_26 b_27 fun w i_30 => br (i_25 = i_30) (K w (1 : Int32)) (K w (0 : Int32))) (dR r_1 fun b_33 => aI w b_33 (5 : Int32) fun i_34 => gI w a0 4 3 fun i_35 => nI_ w (6 : Int32) 6 fun w b_36 => sI w b_36 (0 : Int32) (4 : Int32) fun w => aI w b_33 (0 : Int32) fun i_37 => sI w b_36 (1 : Int32) i_37 fun w => aI w b_33 (1 : Int32) fun i_38 => sI w b_36 (2 : Int32) i_38 fun w => aI w b_33 (2 : Int32) fun i_39 => sI w b_36 (3 : Int32) i_39 fun w => aI w b_33 (3 : Int32) fun i_40 => sI w b_36 (4 : Int32) i_40 fun w => aI w b_33 (4 : Int32) fun i_41 => sI w b_36 (5 : Int32) i_41 fun w => wp_X1_sealOf w i_35 b_36 fun w i_42 => br (i_34 = i_42) (K w (1 : Int32)) (K w (0 : Int32)))))
abbrev rm_X5_isRight : Room := { frames := 2, cells := 1, slots := 6, locals := 51 }
abbrev ws9_X5_isRight : List Cond := ws_ yX5_isRight cX5_isRight 2 (Option.some Jvm.ClassFile.FieldType.boolean)
abbrev Q9_X5_isRight (below : List Frame) (args : Array Value) (s : State) (G : hG) (K : Hp → Int32 → Prop) : State → Prop := MQ below (hx_Qi G K) args s 1 6 (hx_A G)
set_option maxHeartbeats 4000000 in
set_option maxRecDepth 100000 in
theorem wk_X5_isRight (l : Launch) {G : hG} {w : Hp} {a0 : Nat} {K : Hp → Int32 → Prop} (h : wp_X5_isRight w a0 K) : hx_Mi l yX5_isRight (ws9_X5_isRight) rm_X5_isRight G w [.ref a0] K 1 6 := by
  refine Met.ofW (cc := cX5_isRight) (maxL := 2) (ret := (Option.some Jvm.ClassFile.FieldType.boolean)) (by decide +kernel) rfl ?_
  intro p e s m args below meth c s₁ B hml hv
  refine hx_in (own := RX5) (av := [.ref a0]) (vl := [(0, va_rf (some a0))]) rfl rfl (Nat.le_of_ble_eq_true rfl) rfl B hml hv ?_
  intro C0 hU hH hr hlocks hin ls hl
  have hx := C0.1
  have hb := C0.2.1
  have hts := C0.2.2.2.2
  refine hx_aload_n C0 dX5_isRight_0 rfl (lv_at hl 0 rfl) ?_
  refine hx_gR C0 hU hH (ci := 4) rfl in_X5 4 (by decide) q660 (fun _ h9 => h9) h dX5_isRight_1 (fun r_1 h => ?_)
  refine hx_astore_n C0 dX5_isRight_4 rfl hl (by decide) (lv' := [(1, va_rf r_1), (0, va_rf (some a0))]) rfl (fun ls hl => ?_)
  refine hx_aload_n C0 dX5_isRight_5 rfl (lv_at hl 1 rfl) ?_
  refine hx_gI C0 hU hH (ci := 4) rfl in_X5 2 (by decide) q657 (fun _ h9 => h9) h dX5_isRight_6 (fun i_2 h => ?_)
  by_cases c_13 : i_2 = 1
  · have h := h.1 c_13
    have zc_13 : (i_2).toInt = 1 := by rw [c_13]; rfl
    refine lv_tableIn hx hb dX5_isRight_9 (by rw [zc_13]; decide) (by rw [zc_13]; decide) (by rw [zc_13]; rfl) (tgt := 36) (by decide) ?_
    refine hx_aload_n C0 dX5_isRight_36 rfl (lv_at hl 0 rfl) ?_
    refine lv_iconst (v := 4) hx hb dX5_isRight_37 (by decide) ?_
    obtain ⟨b_3, rfl, h9⟩ := h
    have h := h9
    clear h9
    refine hx_aI C0 hU hH h dX5_isRight_38 (fun i_4 h => ?_)
    refine hx_aload_n C0 dX5_isRight_39 rfl (lv_at hl 1 rfl) ?_
    refine hx_gI C0 hU hH (ci := 4) rfl in_X5 3 (by decide) q659 (fun _ h9 => h9) h dX5_isRight_40 (fun i_5 h => ?_)
    refine lv_iconst (v := 5) hx hb dX5_isRight_43 (by decide) ?_
    refine hx_nI C0 hU hH (Nat.le_of_ble_eq_true rfl) (Nat.le_of_ble_eq_true rfl) (Nat.le_of_ble_eq_true rfl) h dX5_isRight_44 (fun b_6 w H locs hH h => ?_)
    refine lv_dup hx hb dX5_isRight_46 rfl ?_
    refine lv_iconst (v := 0) hx hb dX5_isRight_47 (by decide) ?_
    refine lv_iconst (v := 1) hx hb dX5_isRight_48 (by decide) ?_
    refine hx_sI C0 hU hH h dX5_isRight_49 (fun w H locs hH h => ?_)
    refine lv_dup hx hb dX5_isRight_50 rfl ?_
    refine lv_iconst (v := 1) hx hb dX5_isRight_51 (by decide) ?_
    refine hx_aload_n C0 dX5_isRight_52 rfl (lv_at hl 0 rfl) ?_
    refine lv_iconst (v := 0) hx hb dX5_isRight_53 (by decide) ?_
    refine hx_aI C0 hU hH h dX5_isRight_54 (fun i_7 h => ?_)
    refine hx_sI C0 hU hH h dX5_isRight_55 (fun w H locs hH h => ?_)
    refine lv_dup hx hb dX5_isRight_56 rfl ?_
    refine lv_iconst (v := 2) hx hb dX5_isRight_57 (by decide) ?_
    refine hx_aload_n C0 dX5_isRight_58 rfl (lv_at hl 0 rfl) ?_
    refine lv_iconst (v := 1) hx hb dX5_isRight_59 (by decide) ?_
    refine hx_aI C0 hU hH h dX5_isRight_60 (fun i_8 h => ?_)
    refine hx_sI C0 hU hH h dX5_isRight_61 (fun w H locs hH h => ?_)
    refine lv_dup hx hb dX5_isRight_62 rfl ?_
    refine lv_iconst (v := 3) hx hb dX5_isRight_63 (by decide) ?_
    refine hx_aload_n C0 dX5_isRight_64 rfl (lv_at hl 0 rfl) ?_
    refine lv_iconst (v := 2) hx hb dX5_isRight_65 (by decide) ?_
    refine hx_aI C0 hU hH h dX5_isRight_66 (fun i_9 h => ?_)
    refine hx_sI C0 hU hH h dX5_isRight_67 (fun w H locs hH h => ?_)
    refine lv_dup hx hb dX5_isRight_68 rfl ?_
    refine lv_iconst (v := 4) hx hb dX5_isRight_69 (by decide) ?_
    refine hx_aload_n C0 dX5_isRight_70 rfl (lv_at hl 0 rfl) ?_
    refine lv_iconst (v := 3) hx hb dX5_isRight_71 (by decide) ?_
    refine hx_aI C0 hU hH h dX5_isRight_72 (fun i_10 h => ?_)
    refine hx_sI C0 hU hH h dX5_isRight_73 (fun w H locs hH h => ?_)
    refine hx_SNi C0 hU hH (As := [.int i_5, va_rf (some b_6)]) (wk_X1_sealOf l h) ⟨va_cnB 2 hts (lw_meth q456) rfl rfl rfl (hU.2.2.1 _ q454 rfl) (hts _ q60) (by decide +kernel) ⟨Nat.le_of_ble_eq_true rfl, Nat.le_of_ble_eq_true rfl⟩, hts _ q455, trivial⟩ rfl hl.1 rfl (Nat.le_of_ble_eq_true rfl) dX5_isRight_74 ⟨Nat.le_of_ble_eq_true rfl, Nat.le_of_ble_eq_true rfl⟩ (fun i_11 w H locs hH h => ?_)
    refine lv_icmp_ne hx hb dX5_isRight_77 (tgt := 84) (by decide) (fun c_12 => ?_) (fun c_12 => ?_)
    · have h := h.2 c_12
      refine lv_iconst (v := 0) hx hb dX5_isRight_84 (by decide) ?_
      exact hx_retz C0 hH hr hlocks (Or.inl rfl) h (Nat.le_of_ble_eq_true rfl) (Nat.le_of_ble_eq_true rfl) dX5_isRight_85
    · have h := h.1 c_12
      refine lv_iconst (v := 1) hx hb dX5_isRight_80 (by decide) ?_
      refine lv_goto hx hb dX5_isRight_81 (tgt := 85) (by decide) ?_
      exact hx_retz C0 hH hr hlocks (Or.inr rfl) h (Nat.le_of_ble_eq_true rfl) (Nat.le_of_ble_eq_true rfl) dX5_isRight_85
  have h := h.2 c_13
  have nc_13 : ¬ (i_2).toInt = 1 := hx_ni c_13 rfl
  by_cases c_23 : i_2 = 2
  · have h := h.1 c_23
    have zc_23 : (i_2).toInt = 2 := by rw [c_23]; rfl
    refine lv_tableIn hx hb dX5_isRight_9 (by rw [zc_23]; decide) (by rw [zc_23]; decide) (by rw [zc_23]; rfl) (tgt := 86) (by decide) ?_
    refine hx_aload_n C0 dX5_isRight_86 rfl (lv_at hl 0 rfl) ?_
    refine lv_iconst (v := 3) hx hb dX5_isRight_87 (by decide) ?_
    obtain ⟨b_14, rfl, h9⟩ := h
    have h := h9
    clear h9
    refine hx_aI C0 hU hH h dX5_isRight_88 (fun i_15 h => ?_)
    refine hx_aload_n C0 dX5_isRight_89 rfl (lv_at hl 1 rfl) ?_
    refine hx_gI C0 hU hH (ci := 4) rfl in_X5 3 (by decide) q659 (fun _ h9 => h9) h dX5_isRight_90 (fun i_16 h => ?_)
    refine lv_iconst (v := 4) hx hb dX5_isRight_93 (by decide) ?_
    refine hx_nI C0 hU hH (Nat.le_of_ble_eq_true rfl) (Nat.le_of_ble_eq_true rfl) (Nat.le_of_ble_eq_true rfl) h dX5_isRight_94 (fun b_17 w H locs hH h => ?_)
    refine lv_dup hx hb dX5_isRight_96 rfl ?_
    refine lv_iconst (v := 0) hx hb dX5_isRight_97 (by decide) ?_
    refine lv_iconst (v := 2) hx hb dX5_isRight_98 (by decide) ?_
    refine hx_sI C0 hU hH h dX5_isRight_99 (fun w H locs hH h => ?_)
    refine lv_dup hx hb dX5_isRight_100 rfl ?_
    refine lv_iconst (v := 1) hx hb dX5_isRight_101 (by decide) ?_
    refine hx_aload_n C0 dX5_isRight_102 rfl (lv_at hl 0 rfl) ?_
    refine lv_iconst (v := 0) hx hb dX5_isRight_103 (by decide) ?_
    refine hx_aI C0 hU hH h dX5_isRight_104 (fun i_18 h => ?_)
    refine hx_sI C0 hU hH h dX5_isRight_105 (fun w H locs hH h => ?_)
    refine lv_dup hx hb dX5_isRight_106 rfl ?_
    refine lv_iconst (v := 2) hx hb dX5_isRight_107 (by decide) ?_
    refine hx_aload_n C0 dX5_isRight_108 rfl (lv_at hl 0 rfl) ?_
    refine lv_iconst (v := 1) hx hb dX5_isRight_109 (by decide) ?_
    refine hx_aI C0 hU hH h dX5_isRight_110 (fun i_19 h => ?_)
    refine hx_sI C0 hU hH h dX5_isRight_111 (fun w H locs hH h => ?_)
    refine lv_dup hx hb dX5_isRight_112 rfl ?_
    refine lv_iconst (v := 3) hx hb dX5_isRight_113 (by decide) ?_
    refine hx_aload_n C0 dX5_isRight_114 rfl (lv_at hl 0 rfl) ?_
    refine lv_iconst (v := 2) hx hb dX5_isRight_115 (by decide) ?_
    refine hx_aI C0 hU hH h dX5_isRight_116 (fun i_20 h => ?_)
    refine hx_sI C0 hU hH h dX5_isRight_117 (fun w H locs hH h => ?_)
    refine hx_SNi C0 hU hH (As := [.int i_16, va_rf (some b_17)]) (wk_X1_sealOf l h) ⟨va_cnB 2 hts (lw_meth q456) rfl rfl rfl (hU.2.2.1 _ q454 rfl) (hts _ q60) (by decide +kernel) ⟨Nat.le_of_ble_eq_true rfl, Nat.le_of_ble_eq_true rfl⟩, hts _ q455, trivial⟩ rfl hl.1 rfl (Nat.le_of_ble_eq_true rfl) dX5_isRight_118 ⟨Nat.le_of_ble_eq_true rfl, Nat.le_of_ble_eq_true rfl⟩ (fun i_21 w H locs hH h => ?_)
    refine lv_icmp_ne hx hb dX5_isRight_121 (tgt := 128) (by decide) (fun c_22 => ?_) (fun c_22 => ?_)
    · have h := h.2 c_22
      refine lv_iconst (v := 0) hx hb dX5_isRight_128 (by decide) ?_
      exact hx_retz C0 hH hr hlocks (Or.inl rfl) h (Nat.le_of_ble_eq_true rfl) (Nat.le_of_ble_eq_true rfl) dX5_isRight_129
    · have h := h.1 c_22
      refine lv_iconst (v := 1) hx hb dX5_isRight_124 (by decide) ?_
      refine lv_goto hx hb dX5_isRight_125 (tgt := 129) (by decide) ?_
      exact hx_retz C0 hH hr hlocks (Or.inr rfl) h (Nat.le_of_ble_eq_true rfl) (Nat.le_of_ble_eq_true rfl) dX5_isRight_129
  have h := h.2 c_23
  have nc_23 : ¬ (i_2).toInt = 2 := hx_ni c_23 rfl
  by_cases c_32 : i_2 = 3
  · have h := h.1 c_32
    have zc_32 : (i_2).toInt = 3 := by rw [c_32]; rfl
    refine lv_tableIn hx hb dX5_isRight_9 (by rw [zc_32]; decide) (by rw [zc_32]; decide) (by rw [zc_32]; rfl) (tgt := 130) (by decide) ?_
    refine hx_aload_n C0 dX5_isRight_130 rfl (lv_at hl 0 rfl) ?_
    refine lv_iconst (v := 2) hx hb dX5_isRight_131 (by decide) ?_
    obtain ⟨b_24, rfl, h9⟩ := h
    have h := h9
    clear h9
    refine hx_aI C0 hU hH h dX5_isRight_132 (fun i_25 h => ?_)
    refine hx_aload_n C0 dX5_isRight_133 rfl (lv_at hl 1 rfl) ?_
    refine hx_gI C0 hU hH (ci := 4) rfl in_X5 3 (by decide) q659 (fun _ h9 => h9) h dX5_isRight_134 (fun i_26 h => ?_)
    refine lv_iconst (v := 3) hx hb dX5_isRight_137 (by decide) ?_
    refine hx_nI C0 hU hH (Nat.le_of_ble_eq_true rfl) (Nat.le_of_ble_eq_true rfl) (Nat.le_of_ble_eq_true rfl) h dX5_isRight_138 (fun b_27 w H locs hH h => ?_)
    refine lv_dup hx hb dX5_isRight_140 rfl ?_
    refine lv_iconst (v := 0) hx hb dX5_isRight_141 (by decide) ?_
    refine lv_iconst (v := 3) hx hb dX5_isRight_142 (by decide) ?_
    refine hx_sI C0 hU hH h dX5_isRight_143 (fun w H locs hH h => ?_)
    refine lv_dup hx hb dX5_isRight_144 rfl ?_
    refine lv_iconst (v := 1) hx hb dX5_isRight_145 (by decide) ?_
    refine hx_aload_n C0 dX5_isRight_146 rfl (lv_at hl 0 rfl) ?_
    refine lv_iconst (v := 0) hx hb dX5_isRight_147 (by decide) ?_
    refine hx_aI C0 hU hH h dX5_isRight_148 (fun i_28 h => ?_)
    refine hx_sI C0 hU hH h dX5_isRight_149 (fun w H locs hH h => ?_)
    refine lv_dup hx hb dX5_isRight_150 rfl ?_
    refine lv_iconst (v := 2) hx hb dX5_isRight_151 (by decide) ?_
    refine hx_aload_n C0 dX5_isRight_152 rfl (lv_at hl 0 rfl) ?_
    refine lv_iconst (v := 1) hx hb dX5_isRight_153 (by decide) ?_
    refine hx_aI C0 hU hH h dX5_isRight_154 (fun i_29 h => ?_)
    refine hx_sI C0 hU hH h dX5_isRight_155 (fun w H locs hH h => ?_)
    refine hx_SNi C0 hU hH (As := [.int i_26, va_rf (some b_27)]) (wk_X1_sealOf l h) ⟨va_cnB 2 hts (lw_meth q456) rfl rfl rfl (hU.2.2.1 _ q454 rfl) (hts _ q60) (by decide +kernel) ⟨Nat.le_of_ble_eq_true rfl, Nat.le_of_ble_eq_true rfl⟩, hts _ q455, trivial⟩ rfl hl.1 rfl (Nat.le_of_ble_eq_true rfl) dX5_isRight_156 ⟨Nat.le_of_ble_eq_true rfl, Nat.le_of_ble_eq_true rfl⟩ (fun i_30 w H locs hH h => ?_)
    refine lv_icmp_ne hx hb dX5_isRight_159 (tgt := 166) (by decide) (fun c_31 => ?_) (fun c_31 => ?_)
    · have h := h.2 c_31
      refine lv_iconst (v := 0) hx hb dX5_isRight_166 (by decide) ?_
      exact hx_retz C0 hH hr hlocks (Or.inl rfl) h (Nat.le_of_ble_eq_true rfl) (Nat.le_of_ble_eq_true rfl) dX5_isRight_167
    · have h := h.1 c_31
      refine lv_iconst (v := 1) hx hb dX5_isRight_162 (by decide) ?_
      refine lv_goto hx hb dX5_isRight_163 (tgt := 167) (by decide) ?_
      exact hx_retz C0 hH hr hlocks (Or.inr rfl) h (Nat.le_of_ble_eq_true rfl) (Nat.le_of_ble_eq_true rfl) dX5_isRight_167
  have h := h.2 c_32
  have nc_32 : ¬ (i_2).toInt = 3 := hx_ni c_32 rfl
  refine lv_tableOut hx hb dX5_isRight_9 (by omega) (tgt := 168) (by decide) ?_
  refine hx_aload_n C0 dX5_isRight_168 rfl (lv_at hl 0 rfl) ?_
  refine lv_iconst (v := 5) hx hb dX5_isRight_169 (by decide) ?_
  obtain ⟨b_33, rfl, h9⟩ := h
  have h := h9
  clear h9
  refine hx_aI C0 hU hH h dX5_isRight_170 (fun i_34 h => ?_)
  refine hx_aload_n C0 dX5_isRight_171 rfl (lv_at hl 1 rfl) ?_
  refine hx_gI C0 hU hH (ci := 4) rfl in_X5 3 (by decide) q659 (fun _ h9 => h9) h dX5_isRight_172 (fun i_35 h => ?_)
  refine lv_bipush (v := 6) hx hb dX5_isRight_175 (by decide) ?_
  refine hx_nI C0 hU hH (Nat.le_of_ble_eq_true rfl) (Nat.le_of_ble_eq_true rfl) (Nat.le_of_ble_eq_true rfl) h dX5_isRight_177 (fun b_36 w H locs hH h => ?_)
  refine lv_dup hx hb dX5_isRight_179 rfl ?_
  refine lv_iconst (v := 0) hx hb dX5_isRight_180 (by decide) ?_
  refine lv_iconst (v := 4) hx hb dX5_isRight_181 (by decide) ?_
  refine hx_sI C0 hU hH h dX5_isRight_182 (fun w H locs hH h => ?_)
  refine lv_dup hx hb dX5_isRight_183 rfl ?_
  refine lv_iconst (v := 1) hx hb dX5_isRight_184 (by decide) ?_
  refine hx_aload_n C0 dX5_isRight_185 rfl (lv_at hl 0 rfl) ?_
  refine lv_iconst (v := 0) hx hb dX5_isRight_186 (by decide) ?_
  refine hx_aI C0 hU hH h dX5_isRight_187 (fun i_37 h => ?_)
  refine hx_sI C0 hU hH h dX5_isRight_188 (fun w H locs hH h => ?_)
  refine lv_dup hx hb dX5_isRight_189 rfl ?_
  refine lv_iconst (v := 2) hx hb dX5_isRight_190 (by decide) ?_
  refine hx_aload_n C0 dX5_isRight_191 rfl (lv_at hl 0 rfl) ?_
  refine lv_iconst (v := 1) hx hb dX5_isRight_192 (by decide) ?_
  refine hx_aI C0 hU hH h dX5_isRight_193 (fun i_38 h => ?_)
  refine hx_sI C0 hU hH h dX5_isRight_194 (fun w H locs hH h => ?_)
  refine lv_dup hx hb dX5_isRight_195 rfl ?_
  refine lv_iconst (v := 3) hx hb dX5_isRight_196 (by decide) ?_
  refine hx_aload_n C0 dX5_isRight_197 rfl (lv_at hl 0 rfl) ?_
  refine lv_iconst (v := 2) hx hb dX5_isRight_198 (by decide) ?_
  refine hx_aI C0 hU hH h dX5_isRight_199 (fun i_39 h => ?_)
  refine hx_sI C0 hU hH h dX5_isRight_200 (fun w H locs hH h => ?_)
  refine lv_dup hx hb dX5_isRight_201 rfl ?_
  refine lv_iconst (v := 4) hx hb dX5_isRight_202 (by decide) ?_
  refine hx_aload_n C0 dX5_isRight_203 rfl (lv_at hl 0 rfl) ?_
  refine lv_iconst (v := 3) hx hb dX5_isRight_204 (by decide) ?_
  refine hx_aI C0 hU hH h dX5_isRight_205 (fun i_40 h => ?_)
  refine hx_sI C0 hU hH h dX5_isRight_206 (fun w H locs hH h => ?_)
  refine lv_dup hx hb dX5_isRight_207 rfl ?_
  refine lv_iconst (v := 5) hx hb dX5_isRight_208 (by decide) ?_
  refine hx_aload_n C0 dX5_isRight_209 rfl (lv_at hl 0 rfl) ?_
  refine lv_iconst (v := 4) hx hb dX5_isRight_210 (by decide) ?_
  refine hx_aI C0 hU hH h dX5_isRight_211 (fun i_41 h => ?_)
  refine hx_sI C0 hU hH h dX5_isRight_212 (fun w H locs hH h => ?_)
  refine hx_SNi C0 hU hH (As := [.int i_35, va_rf (some b_36)]) (wk_X1_sealOf l h) ⟨va_cnB 2 hts (lw_meth q456) rfl rfl rfl (hU.2.2.1 _ q454 rfl) (hts _ q60) (by decide +kernel) ⟨Nat.le_of_ble_eq_true rfl, Nat.le_of_ble_eq_true rfl⟩, hts _ q455, trivial⟩ rfl hl.1 rfl (Nat.le_of_ble_eq_true rfl) dX5_isRight_213 ⟨Nat.le_of_ble_eq_true rfl, Nat.le_of_ble_eq_true rfl⟩ (fun i_42 w H locs hH h => ?_)
  refine lv_icmp_ne hx hb dX5_isRight_216 (tgt := 223) (by decide) (fun c_43 => ?_) (fun c_43 => ?_)
  · have h := h.2 c_43
    refine lv_iconst (v := 0) hx hb dX5_isRight_223 (by decide) ?_
    exact hx_retz C0 hH hr hlocks (Or.inl rfl) h (Nat.le_of_ble_eq_true rfl) (Nat.le_of_ble_eq_true rfl) dX5_isRight_224
  · have h := h.1 c_43
    refine lv_iconst (v := 1) hx hb dX5_isRight_219 (by decide) ?_
    refine lv_goto hx hb dX5_isRight_220 (tgt := 224) (by decide) ?_
    exact hx_retz C0 hH hr hlocks (Or.inr rfl) h (Nat.le_of_ble_eq_true rfl) (Nat.le_of_ble_eq_true rfl) dX5_isRight_224
def wp_X5_tell (w : Hp) (a0 : Nat) (x1 : Int32) (K : Hp → Int32 → Prop) : Prop :=
  br (x1 = 0) (gI w a0 4 0 fun i_9 => K w i_9) (br (x1 = (1 : Int32)) (gI w a0 4 1 fun i_8 => K w i_8) (br (x1 = (2 : Int32)) (gI w a0 4 2 fun i_7 => K w i_7) (gR w a0 4 4 fun r_4 => dR r_4 fun b_5 => aI w b_5 (x1 - (3 : Int32)) fun i_6 => K w i_6)))
abbrev rm_X5_tell : Room := { frames := 0, cells := 0, slots := 0, locals := 0 }
abbrev ws9_X5_tell : List Cond := ws_ yX5_tell cX5_tell 2 (Option.some Jvm.ClassFile.FieldType.int)
abbrev Q9_X5_tell (below : List Frame) (args : Array Value) (s : State) (G : hG) (K : Hp → Int32 → Prop) : State → Prop := MQ below (hx_Qi G K) args s 0 0 (hx_A G)
set_option maxHeartbeats 4000000 in
set_option maxRecDepth 100000 in
theorem wk_X5_tell (l : Launch) {G : hG} {w : Hp} {a0 : Nat} {x1 : Int32} {K : Hp → Int32 → Prop} (h : wp_X5_tell w a0 x1 K) : hx_Mi l yX5_tell (ws9_X5_tell) rm_X5_tell G w [.ref a0, .int x1] K 0 0 := by
  refine Met.ofW (cc := cX5_tell) (maxL := 2) (ret := (Option.some Jvm.ClassFile.FieldType.int)) (by decide +kernel) rfl ?_
  intro p e s m args below meth c s₁ B hml hv
  refine hx_in (own := RX5) (av := [.ref a0, .int x1]) (vl := [(0, va_rf (some a0)), (1, .int x1)]) rfl rfl (Nat.le_of_ble_eq_true rfl) rfl B hml hv ?_
  intro C0 hU hH hr hlocks hin ls hl
  have hx := C0.1
  have hb := C0.2.1
  have hts := C0.2.2.2.2
  refine lv_iload_n hx hb dX5_tell_0 rfl (lv_at hl 1 rfl) ?_
  refine lv_if_ne hx hb dX5_tell_1 (tgt := 11) (by decide) (fun c_1 => ?_) (fun c_1 => ?_)
  · have h := h.2 c_1
    refine lv_iload_n hx hb dX5_tell_11 rfl (lv_at hl 1 rfl) ?_
    refine lv_iconst (v := 1) hx hb dX5_tell_12 (by decide) ?_
    refine lv_icmp_ne hx hb dX5_tell_13 (tgt := 23) (by decide) (fun c_2 => ?_) (fun c_2 => ?_)
    · have h := h.2 c_2
      refine lv_iload_n hx hb dX5_tell_23 rfl (lv_at hl 1 rfl) ?_
      refine lv_iconst (v := 2) hx hb dX5_tell_24 (by decide) ?_
      refine lv_icmp_ne hx hb dX5_tell_25 (tgt := 35) (by decide) (fun c_3 => ?_) (fun c_3 => ?_)
      · have h := h.2 c_3
        refine hx_aload_n C0 dX5_tell_35 rfl (lv_at hl 0 rfl) ?_
        refine hx_gR C0 hU hH (ci := 4) rfl in_X5 4 (by decide) q660 (fun _ h9 => h9) h dX5_tell_36 (fun r_4 h => ?_)
        refine lv_iload_n hx hb dX5_tell_39 rfl (lv_at hl 1 rfl) ?_
        refine lv_iconst (v := 3) hx hb dX5_tell_40 (by decide) ?_
        refine lv_isub hx hb dX5_tell_41 ?_
        obtain ⟨b_5, rfl, h9⟩ := h
        have h := h9
        clear h9
        refine hx_aI C0 hU hH h dX5_tell_42 (fun i_6 h => ?_)
        exact hx_reti C0 hH hr hlocks h (Nat.le_of_ble_eq_true rfl) (Nat.le_of_ble_eq_true rfl) dX5_tell_43
      · have h := h.1 c_3
        refine hx_aload_n C0 dX5_tell_28 rfl (lv_at hl 0 rfl) ?_
        refine hx_gI C0 hU hH (ci := 4) rfl in_X5 2 (by decide) q657 (fun _ h9 => h9) h dX5_tell_29 (fun i_7 h => ?_)
        refine lv_goto hx hb dX5_tell_32 (tgt := 43) (by decide) ?_
        exact hx_reti C0 hH hr hlocks h (Nat.le_of_ble_eq_true rfl) (Nat.le_of_ble_eq_true rfl) dX5_tell_43
    · have h := h.1 c_2
      refine hx_aload_n C0 dX5_tell_16 rfl (lv_at hl 0 rfl) ?_
      refine hx_gI C0 hU hH (ci := 4) rfl in_X5 1 (by decide) q655 (fun _ h9 => h9) h dX5_tell_17 (fun i_8 h => ?_)
      refine lv_goto hx hb dX5_tell_20 (tgt := 43) (by decide) ?_
      exact hx_reti C0 hH hr hlocks h (Nat.le_of_ble_eq_true rfl) (Nat.le_of_ble_eq_true rfl) dX5_tell_43
  · have h := h.1 c_1
    refine hx_aload_n C0 dX5_tell_4 rfl (lv_at hl 0 rfl) ?_
    refine hx_gI C0 hU hH (ci := 4) rfl in_X5 0 (by decide) q653 (fun _ h9 => h9) h dX5_tell_5 (fun i_9 h => ?_)
    refine lv_goto hx hb dX5_tell_8 (tgt := 43) (by decide) ?_
    exact hx_reti C0 hH hr hlocks h (Nat.le_of_ble_eq_true rfl) (Nat.le_of_ble_eq_true rfl) dX5_tell_43
def wp_X5_init (w : Hp) (a0 : Nat) (x1 : Int32) (x2 : Int32) (x3 : Int32) (x4 : Int32) (a5 : Nat) (K : Hp → Prop) : Prop :=
  nI_ w (6 : Int32) 6 fun w b_1 => pV w a0 4 4 (va_rf (some b_1)) fun w => pV w a0 4 5 (.int (-1 : Int32)) fun w => pV w a0 4 0 (.int x1) fun w => pV w a0 4 1 (.int x2) fun w => pV w a0 4 2 (.int x3) fun w => pV w a0 4 3 (.int x4) fun w => gR w a0 4 4 fun r_2 => aN w a5 fun i_3 => dR r_2 fun b_4 => cI w a5 (0 : Int32) b_4 (0 : Int32) i_3 fun w => K w
abbrev rm_X5_init : Room := { frames := 1, cells := 1, slots := 6, locals := 60 }
abbrev ws9_X5_init : List Cond := ws_ yX5_init cX5_init 6 none
abbrev Q9_X5_init (below : List Frame) (args : Array Value) (s : State) (G : hG) (K : Hp → Prop) : State → Prop := MQ below (hx_Qv G K) args s 1 6 (hx_A G)
set_option maxHeartbeats 4000000 in
set_option maxRecDepth 100000 in
theorem wk_X5_init (l : Launch) {G : hG} {w : Hp} {a0 : Nat} {x1 : Int32} {x2 : Int32} {x3 : Int32} {x4 : Int32} {a5 : Nat} {K : Hp → Prop} (h : wp_X5_init w a0 x1 x2 x3 x4 a5 K) : hx_Mv l yX5_init (ws9_X5_init) rm_X5_init G w [.ref a0, .int x1, .int x2, .int x3, .int x4, .ref a5] K 1 6 := by
  refine Met.ofW (cc := cX5_init) (maxL := 6) (ret := none) (by decide +kernel) rfl ?_
  intro p e s m args below meth c s₁ B hml hv
  refine hx_in (own := RX5) (av := [.ref a0, .int x1, .int x2, .int x3, .int x4, .ref a5]) (vl := [(0, va_rf (some a0)), (1, .int x1), (2, .int x2), (3, .int x3), (4, .int x4), (5, va_rf (some a5))]) rfl rfl (Nat.le_of_ble_eq_true rfl) rfl B hml hv ?_
  intro C0 hU hH hr hlocks hin ls hl
  have hx := C0.1
  have hb := C0.2.1
  have hts := C0.2.2.2.2
  refine hx_aload_n C0 dX5_init_0 rfl (lv_at hl 0 rfl) ?_
  refine W.objInit hx hb C0.2.2.2.1 (hts _ q651) (hts _ q93) (hts _ q94) rfl (by rw [C0.2.2.1]; exact hl.1) rfl dX5_init_1 (Nat.le_of_ble_eq_true rfl) (Nat.le_of_ble_eq_true rfl) ?_
  refine W.eq (g2 := F0 m 4 ls []) rfl ?_
  refine hx_aload_n C0 dX5_init_4 rfl (lv_at hl 0 rfl) ?_
  refine lv_bipush (v := 6) hx hb dX5_init_5 (by decide) ?_
  refine hx_nI C0 hU hH (Nat.le_of_ble_eq_true rfl) (Nat.le_of_ble_eq_true rfl) (Nat.le_of_ble_eq_true rfl) h dX5_init_7 (fun b_1 w H locs hH h => ?_)
  refine hx_pV C0 hU hH (ci := 4) rfl in_X5 tyX5 tyX5_ok nmX5 4 (by decide) q660 (fun _ h9 => h9) (Or.inr ⟨rfl, hin rfl, rfl⟩) (hx_fa _ _).1 (hx_fa _ _).2 h dX5_init_9 (fun w H locs hH h => ?_)
  refine hx_aload_n C0 dX5_init_12 rfl (lv_at hl 0 rfl) ?_
  refine lv_iconst (v := -1) hx hb dX5_init_13 (by decide) ?_
  refine hx_pV C0 hU hH (ci := 4) rfl in_X5 tyX5 tyX5_ok nmX5 5 (by decide) q662 (fun _ h9 => h9) (Or.inl rfl) rfl rfl h dX5_init_14 (fun w H locs hH h => ?_)
  refine hx_aload_n C0 dX5_init_17 rfl (lv_at hl 0 rfl) ?_
  refine lv_iload_n hx hb dX5_init_18 rfl (lv_at hl 1 rfl) ?_
  refine hx_pV C0 hU hH (ci := 4) rfl in_X5 tyX5 tyX5_ok nmX5 0 (by decide) q653 (fun _ h9 => h9) (Or.inl rfl) rfl rfl h dX5_init_19 (fun w H locs hH h => ?_)
  refine hx_aload_n C0 dX5_init_22 rfl (lv_at hl 0 rfl) ?_
  refine lv_iload_n hx hb dX5_init_23 rfl (lv_at hl 2 rfl) ?_
  refine hx_pV C0 hU hH (ci := 4) rfl in_X5 tyX5 tyX5_ok nmX5 1 (by decide) q655 (fun _ h9 => h9) (Or.inr ⟨rfl, hin rfl, rfl⟩) rfl rfl h dX5_init_24 (fun w H locs hH h => ?_)
  refine hx_aload_n C0 dX5_init_27 rfl (lv_at hl 0 rfl) ?_
  refine lv_iload_n hx hb dX5_init_28 rfl (lv_at hl 3 rfl) ?_
  refine hx_pV C0 hU hH (ci := 4) rfl in_X5 tyX5 tyX5_ok nmX5 2 (by decide) q657 (fun _ h9 => h9) (Or.inr ⟨rfl, hin rfl, rfl⟩) rfl rfl h dX5_init_29 (fun w H locs hH h => ?_)
  refine hx_aload_n C0 dX5_init_32 rfl (lv_at hl 0 rfl) ?_
  refine lv_iload hx hb dX5_init_33 (lv_at hl 4 rfl) ?_
  refine hx_pV C0 hU hH (ci := 4) rfl in_X5 tyX5 tyX5_ok nmX5 3 (by decide) q659 (fun _ h9 => h9) (Or.inr ⟨rfl, hin rfl, rfl⟩) rfl rfl h dX5_init_35 (fun w H locs hH h => ?_)
  refine hx_aload C0 dX5_init_38 (lv_at hl 5 rfl) ?_
  refine lv_iconst (v := 0) hx hb dX5_init_40 (by decide) ?_
  refine hx_aload_n C0 dX5_init_41 rfl (lv_at hl 0 rfl) ?_
  refine hx_gR C0 hU hH (ci := 4) rfl in_X5 4 (by decide) q660 (fun _ h9 => h9) h dX5_init_42 (fun r_2 h => ?_)
  refine lv_iconst (v := 0) hx hb dX5_init_45 (by decide) ?_
  refine hx_aload C0 dX5_init_46 (lv_at hl 5 rfl) ?_
  refine hx_aN C0 hU hH h dX5_init_48 (fun i_3 h => ?_)
  obtain ⟨b_4, rfl, h9⟩ := h
  have h := h9
  clear h9
  refine hx_cI C0 hU hH hl.1.symm q652 h (Nat.le_of_ble_eq_true rfl) (by decide) dX5_init_49 (fun w H locs hH h => ?_)
  exact hx_retv C0 hH hr hlocks h (Nat.le_of_ble_eq_true rfl) (Nat.le_of_ble_eq_true rfl) dX5_init_52
def wp_X5_init_2 (w : Hp) (a0 : Nat) (a1 : Nat) (K : Hp → Prop) : Prop :=
  gI w a1 4 0 fun i_1 => gI w a1 4 1 fun i_2 => gI w a1 4 2 fun i_3 => gI w a1 4 3 fun i_4 => gR w a1 4 4 fun r_5 => dR r_5 fun b_6 => wp_X5_init w a0 i_1 i_2 i_3 i_4 b_6 fun w => gI w a1 4 5 fun i_7 => pV w a0 4 5 (.int i_7) fun w => gI w a1 4 6 fun i_8 => pV w a0 4 6 (.int i_8) fun w => K w
abbrev rm_X5_init_2 : Room := { frames := 2, cells := 1, slots := 6, locals := 85 }
abbrev ws9_X5_init_2 : List Cond := ws_ yX5_init_2 cX5_init_2 2 none
abbrev Q9_X5_init_2 (below : List Frame) (args : Array Value) (s : State) (G : hG) (K : Hp → Prop) : State → Prop := MQ below (hx_Qv G K) args s 1 6 (hx_A G)
set_option maxHeartbeats 4000000 in
set_option maxRecDepth 100000 in
theorem wk_X5_init_2 (l : Launch) {G : hG} {w : Hp} {a0 : Nat} {a1 : Nat} {K : Hp → Prop} (h : wp_X5_init_2 w a0 a1 K) : hx_Mv l yX5_init_2 (ws9_X5_init_2) rm_X5_init_2 G w [.ref a0, .ref a1] K 1 6 := by
  refine Met.ofW (cc := cX5_init_2) (maxL := 2) (ret := none) (by decide +kernel) rfl ?_
  intro p e s m args below meth c s₁ B hml hv
  refine hx_in (own := RX5) (av := [.ref a0, .ref a1]) (vl := [(0, va_rf (some a0)), (1, va_rf (some a1))]) rfl rfl (Nat.le_of_ble_eq_true rfl) rfl B hml hv ?_
  intro C0 hU hH hr hlocks hin ls hl
  have hx := C0.1
  have hb := C0.2.1
  have hts := C0.2.2.2.2
  refine hx_aload_n C0 dX5_init_2_0 rfl (lv_at hl 0 rfl) ?_
  refine hx_aload_n C0 dX5_init_2_1 rfl (lv_at hl 1 rfl) ?_
  refine hx_gI C0 hU hH (ci := 4) rfl in_X5 0 (by decide) q653 (fun _ h9 => h9) h dX5_init_2_2 (fun i_1 h => ?_)
  refine hx_aload_n C0 dX5_init_2_5 rfl (lv_at hl 1 rfl) ?_
  refine hx_gI C0 hU hH (ci := 4) rfl in_X5 1 (by decide) q655 (fun _ h9 => h9) h dX5_init_2_6 (fun i_2 h => ?_)
  refine hx_aload_n C0 dX5_init_2_9 rfl (lv_at hl 1 rfl) ?_
  refine hx_gI C0 hU hH (ci := 4) rfl in_X5 2 (by decide) q657 (fun _ h9 => h9) h dX5_init_2_10 (fun i_3 h => ?_)
  refine hx_aload_n C0 dX5_init_2_13 rfl (lv_at hl 1 rfl) ?_
  refine hx_gI C0 hU hH (ci := 4) rfl in_X5 3 (by decide) q659 (fun _ h9 => h9) h dX5_init_2_14 (fun i_4 h => ?_)
  refine hx_aload_n C0 dX5_init_2_17 rfl (lv_at hl 1 rfl) ?_
  refine hx_gR C0 hU hH (ci := 4) rfl in_X5 4 (by decide) q660 (fun _ h9 => h9) h dX5_init_2_18 (fun r_5 h => ?_)
  obtain ⟨b_6, rfl, h9⟩ := h
  have h := h9
  clear h9
  refine hx_Iv C0 hU hH (As := [.int i_1, .int i_2, .int i_3, .int i_4, va_rf (some b_6)]) (wk_X5_init l h) (cwI 5 hts (lw_meth q650) rfl rfl rfl (hts _ q81) (hts _ q893) (hts _ q649) rfl (by decide +kernel) ⟨Nat.le_of_ble_eq_true rfl, Nat.le_of_ble_eq_true rfl⟩) rfl hl.1 rfl (Nat.le_of_ble_eq_true rfl) dX5_init_2_21 ⟨Nat.le_of_ble_eq_true rfl, Nat.le_of_ble_eq_true rfl⟩ (fun w H locs hH h => ?_)
  refine hx_aload_n C0 dX5_init_2_24 rfl (lv_at hl 0 rfl) ?_
  refine hx_aload_n C0 dX5_init_2_25 rfl (lv_at hl 1 rfl) ?_
  refine hx_gI C0 hU hH (ci := 4) rfl in_X5 5 (by decide) q662 (fun _ h9 => h9) h dX5_init_2_26 (fun i_7 h => ?_)
  refine hx_pV C0 hU hH (ci := 4) rfl in_X5 tyX5 tyX5_ok nmX5 5 (by decide) q662 (fun _ h9 => h9) (Or.inl rfl) rfl rfl h dX5_init_2_29 (fun w H locs hH h => ?_)
  refine hx_aload_n C0 dX5_init_2_32 rfl (lv_at hl 0 rfl) ?_
  refine hx_aload_n C0 dX5_init_2_33 rfl (lv_at hl 1 rfl) ?_
  refine hx_gI C0 hU hH (ci := 4) rfl in_X5 6 (by decide) q664 (fun _ h9 => h9) h dX5_init_2_34 (fun i_8 h => ?_)
  refine hx_pV C0 hU hH (ci := 4) rfl in_X5 tyX5 tyX5_ok nmX5 6 (by decide) q664 (fun _ h9 => h9) (Or.inl rfl) rfl rfl h dX5_init_2_37 (fun w H locs hH h => ?_)
  exact hx_retv C0 hH hr hlocks h (Nat.le_of_ble_eq_true rfl) (Nat.le_of_ble_eq_true rfl) dX5_init_2_40
def wp_X5_mayTurn_b69 (K : Hp → Int32 → Prop)  (w : Hp)  : Prop :=
  K w (1 : Int32)
def wp_X5_mayTurn_b42 (K : Hp → Int32 → Prop)  (w : Hp)  : Prop :=
  K w (1 : Int32)
def wp_X5_mayTurn (w : Hp) (a0 : Nat) (x1 : Int32) (K : Hp → Int32 → Prop) : Prop :=
  gI w a0 4 2 fun i_1 => br (i_1 = 1) (br (x1 = (3 : Int32)) (wp_X5_mayTurn_b42 K w) (br (x1 = (4 : Int32)) (wp_X5_mayTurn_b42 K w) (K w (0 : Int32)))) (br (i_1 = 2) (br (x1 = (3 : Int32)) (K w (1 : Int32)) (K w (0 : Int32))) (br (i_1 = 3) (br (x1 = (1 : Int32)) (wp_X5_mayTurn_b69 K w) (br (x1 = (2 : Int32)) (wp_X5_mayTurn_b69 K w) (K w (0 : Int32)))) (br (x1 < (1 : Int32)) (K w (0 : Int32)) (br ((5 : Int32) < x1) (K w (0 : Int32)) (K w (1 : Int32))))))
abbrev rm_X5_mayTurn : Room := { frames := 0, cells := 0, slots := 0, locals := 0 }
abbrev ws9_X5_mayTurn : List Cond := ws_ yX5_mayTurn cX5_mayTurn 2 (Option.some Jvm.ClassFile.FieldType.boolean)
abbrev Q9_X5_mayTurn (below : List Frame) (args : Array Value) (s : State) (G : hG) (K : Hp → Int32 → Prop) : State → Prop := MQ below (hx_Qi G K) args s 0 0 (hx_A G)
set_option maxHeartbeats 4000000 in
set_option maxRecDepth 100000 in
theorem wk_X5_mayTurn (l : Launch) {G : hG} {w : Hp} {a0 : Nat} {x1 : Int32} {K : Hp → Int32 → Prop} (h : wp_X5_mayTurn w a0 x1 K) : hx_Mi l yX5_mayTurn (ws9_X5_mayTurn) rm_X5_mayTurn G w [.ref a0, .int x1] K 0 0 := by
  refine Met.ofW (cc := cX5_mayTurn) (maxL := 2) (ret := (Option.some Jvm.ClassFile.FieldType.boolean)) (by decide +kernel) rfl ?_
  intro p e s m args below meth c s₁ B hml hv
  refine hx_in (own := RX5) (av := [.ref a0, .int x1]) (vl := [(0, va_rf (some a0)), (1, .int x1)]) rfl rfl (Nat.le_of_ble_eq_true rfl) rfl B hml hv ?_
  intro C0 hU hH hr hlocks hin ls hl
  have hx := C0.1
  have hb := C0.2.1
  have hts := C0.2.2.2.2
  have b69 : ∀ (w : Hp) , wp_X5_mayTurn_b69 K  w  → ∀ (H : Heap) (locs : List Loc) (ls : Array Slot), hx_H G w s H locs → lv_has ls 2 [] → W p l e (headSpec (ws9_X5_mayTurn) rm_X5_mayTurn).room s m args below meth c H locs (0) (0) (Q9_X5_mayTurn below args s G K) (F0 m 69 ls []) := by
    intro w  h H locs ls hH hl
    refine lv_iconst (v := 1) hx hb dX5_mayTurn_69 (by decide) ?_
    refine lv_goto hx hb dX5_mayTurn_70 (tgt := 74) (by decide) ?_
    exact hx_retz C0 hH hr hlocks (Or.inr rfl) h (Nat.le_of_ble_eq_true rfl) (Nat.le_of_ble_eq_true rfl) dX5_mayTurn_74
  have b42 : ∀ (w : Hp) , wp_X5_mayTurn_b42 K  w  → ∀ (H : Heap) (locs : List Loc) (ls : Array Slot), hx_H G w s H locs → lv_has ls 2 [] → W p l e (headSpec (ws9_X5_mayTurn) rm_X5_mayTurn).room s m args below meth c H locs (0) (0) (Q9_X5_mayTurn below args s G K) (F0 m 42 ls []) := by
    intro w  h H locs ls hH hl
    refine lv_iconst (v := 1) hx hb dX5_mayTurn_42 (by decide) ?_
    refine lv_goto hx hb dX5_mayTurn_43 (tgt := 47) (by decide) ?_
    exact hx_retz C0 hH hr hlocks (Or.inr rfl) h (Nat.le_of_ble_eq_true rfl) (Nat.le_of_ble_eq_true rfl) dX5_mayTurn_47
  refine hx_aload_n C0 dX5_mayTurn_0 rfl (lv_at hl 0 rfl) ?_
  refine hx_gI C0 hU hH (ci := 4) rfl in_X5 2 (by decide) q657 (fun _ h9 => h9) h dX5_mayTurn_1 (fun i_1 h => ?_)
  by_cases c_4 : i_1 = 1
  · have h := h.1 c_4
    have zc_4 : (i_1).toInt = 1 := by rw [c_4]; rfl
    refine lv_tableIn hx hb dX5_mayTurn_4 (by rw [zc_4]; decide) (by rw [zc_4]; decide) (by rw [zc_4]; rfl) (tgt := 32) (by decide) ?_
    refine lv_iload_n hx hb dX5_mayTurn_32 rfl (lv_at hl 1 rfl) ?_
    refine lv_iconst (v := 3) hx hb dX5_mayTurn_33 (by decide) ?_
    refine lv_icmp_eq hx hb dX5_mayTurn_34 (tgt := 42) (by decide) (fun c_2 => ?_) (fun c_2 => ?_)
    · have h := h.1 c_2
      refine W.widen (k := 0) (n := 0) (Nat.le_of_ble_eq_true rfl) (Nat.le_of_ble_eq_true rfl) ?_
      exact b42 _  h _ _ _ hH (lv_sub hl [] rfl)
    · have h := h.2 c_2
      refine lv_iload_n hx hb dX5_mayTurn_37 rfl (lv_at hl 1 rfl) ?_
      refine lv_iconst (v := 4) hx hb dX5_mayTurn_38 (by decide) ?_
      refine lv_icmp_ne hx hb dX5_mayTurn_39 (tgt := 46) (by decide) (fun c_3 => ?_) (fun c_3 => ?_)
      · have h := h.2 c_3
        refine lv_iconst (v := 0) hx hb dX5_mayTurn_46 (by decide) ?_
        exact hx_retz C0 hH hr hlocks (Or.inl rfl) h (Nat.le_of_ble_eq_true rfl) (Nat.le_of_ble_eq_true rfl) dX5_mayTurn_47
      · have h := h.1 c_3
        refine W.widen (k := 0) (n := 0) (Nat.le_of_ble_eq_true rfl) (Nat.le_of_ble_eq_true rfl) ?_
        exact b42 _  h _ _ _ hH (lv_sub hl [] rfl)
  have h := h.2 c_4
  have nc_4 : ¬ (i_1).toInt = 1 := hx_ni c_4 rfl
  by_cases c_6 : i_1 = 2
  · have h := h.1 c_6
    have zc_6 : (i_1).toInt = 2 := by rw [c_6]; rfl
    refine lv_tableIn hx hb dX5_mayTurn_4 (by rw [zc_6]; decide) (by rw [zc_6]; decide) (by rw [zc_6]; rfl) (tgt := 48) (by decide) ?_
    refine lv_iload_n hx hb dX5_mayTurn_48 rfl (lv_at hl 1 rfl) ?_
    refine lv_iconst (v := 3) hx hb dX5_mayTurn_49 (by decide) ?_
    refine lv_icmp_ne hx hb dX5_mayTurn_50 (tgt := 57) (by decide) (fun c_5 => ?_) (fun c_5 => ?_)
    · have h := h.2 c_5
      refine lv_iconst (v := 0) hx hb dX5_mayTurn_57 (by decide) ?_
      exact hx_retz C0 hH hr hlocks (Or.inl rfl) h (Nat.le_of_ble_eq_true rfl) (Nat.le_of_ble_eq_true rfl) dX5_mayTurn_58
    · have h := h.1 c_5
      refine lv_iconst (v := 1) hx hb dX5_mayTurn_53 (by decide) ?_
      refine lv_goto hx hb dX5_mayTurn_54 (tgt := 58) (by decide) ?_
      exact hx_retz C0 hH hr hlocks (Or.inr rfl) h (Nat.le_of_ble_eq_true rfl) (Nat.le_of_ble_eq_true rfl) dX5_mayTurn_58
  have h := h.2 c_6
  have nc_6 : ¬ (i_1).toInt = 2 := hx_ni c_6 rfl
  by_cases c_9 : i_1 = 3
  · have h := h.1 c_9
    have zc_9 : (i_1).toInt = 3 := by rw [c_9]; rfl
    refine lv_tableIn hx hb dX5_mayTurn_4 (by rw [zc_9]; decide) (by rw [zc_9]; decide) (by rw [zc_9]; rfl) (tgt := 59) (by decide) ?_
    refine lv_iload_n hx hb dX5_mayTurn_59 rfl (lv_at hl 1 rfl) ?_
    refine lv_iconst (v := 1) hx hb dX5_mayTurn_60 (by decide) ?_
    refine lv_icmp_eq hx hb dX5_mayTurn_61 (tgt := 69) (by decide) (fun c_7 => ?_) (fun c_7 => ?_)
    · have h := h.1 c_7
      refine W.widen (k := 0) (n := 0) (Nat.le_of_ble_eq_true rfl) (Nat.le_of_ble_eq_true rfl) ?_
      exact b69 _  h _ _ _ hH (lv_sub hl [] rfl)
    · have h := h.2 c_7
      refine lv_iload_n hx hb dX5_mayTurn_64 rfl (lv_at hl 1 rfl) ?_
      refine lv_iconst (v := 2) hx hb dX5_mayTurn_65 (by decide) ?_
      refine lv_icmp_ne hx hb dX5_mayTurn_66 (tgt := 73) (by decide) (fun c_8 => ?_) (fun c_8 => ?_)
      · have h := h.2 c_8
        refine lv_iconst (v := 0) hx hb dX5_mayTurn_73 (by decide) ?_
        exact hx_retz C0 hH hr hlocks (Or.inl rfl) h (Nat.le_of_ble_eq_true rfl) (Nat.le_of_ble_eq_true rfl) dX5_mayTurn_74
      · have h := h.1 c_8
        refine W.widen (k := 0) (n := 0) (Nat.le_of_ble_eq_true rfl) (Nat.le_of_ble_eq_true rfl) ?_
        exact b69 _  h _ _ _ hH (lv_sub hl [] rfl)
  have h := h.2 c_9
  have nc_9 : ¬ (i_1).toInt = 3 := hx_ni c_9 rfl
  refine lv_tableOut hx hb dX5_mayTurn_4 (by omega) (tgt := 75) (by decide) ?_
  refine lv_iload_n hx hb dX5_mayTurn_75 rfl (lv_at hl 1 rfl) ?_
  refine lv_iconst (v := 1) hx hb dX5_mayTurn_76 (by decide) ?_
  refine lv_icmp_lt hx hb dX5_mayTurn_77 (tgt := 89) (by decide) (fun c_10 => ?_) (fun c_10 => ?_)
  · have h := h.1 c_10
    refine lv_iconst (v := 0) hx hb dX5_mayTurn_89 (by decide) ?_
    exact hx_retz C0 hH hr hlocks (Or.inl rfl) h (Nat.le_of_ble_eq_true rfl) (Nat.le_of_ble_eq_true rfl) dX5_mayTurn_90
  · have h := h.2 c_10
    refine lv_iload_n hx hb dX5_mayTurn_80 rfl (lv_at hl 1 rfl) ?_
    refine lv_iconst (v := 5) hx hb dX5_mayTurn_81 (by decide) ?_
    refine lv_icmp_gt hx hb dX5_mayTurn_82 (tgt := 89) (by decide) (fun c_11 => ?_) (fun c_11 => ?_)
    · have h := h.1 c_11
      refine lv_iconst (v := 0) hx hb dX5_mayTurn_89 (by decide) ?_
      exact hx_retz C0 hH hr hlocks (Or.inl rfl) h (Nat.le_of_ble_eq_true rfl) (Nat.le_of_ble_eq_true rfl) dX5_mayTurn_90
    · have h := h.2 c_11
      refine lv_iconst (v := 1) hx hb dX5_mayTurn_85 (by decide) ?_
      refine lv_goto hx hb dX5_mayTurn_86 (tgt := 90) (by decide) ?_
      exact hx_retz C0 hH hr hlocks (Or.inr rfl) h (Nat.le_of_ble_eq_true rfl) (Nat.le_of_ble_eq_true rfl) dX5_mayTurn_90
def wp_X6_init (w : Hp) (a0 : Nat) (x1 : Int32) (x2 : Int32) (x3 : Int32) (x4 : Int32) (x5 : Int32) (K : Hp → Prop) : Prop :=
  pV w a0 5 0 (.int x1) fun w => pV w a0 5 1 (.int x2) fun w => pV w a0 5 2 (.int x3) fun w => pV w a0 5 3 (.int x4) fun w => pV w a0 5 4 (.int x5) fun w => K w
abbrev rm_X6_init : Room := { frames := 1, cells := 0, slots := 0, locals := 12 }
abbrev ws9_X6_init : List Cond := ws_ yX6_init cX6_init 6 none
abbrev Q9_X6_init (below : List Frame) (args : Array Value) (s : State) (G : hG) (K : Hp → Prop) : State → Prop := MQ below (hx_Qv G K) args s 0 0 (hx_A G)
set_option maxHeartbeats 4000000 in
set_option maxRecDepth 100000 in
theorem wk_X6_init (l : Launch) {G : hG} {w : Hp} {a0 : Nat} {x1 : Int32} {x2 : Int32} {x3 : Int32} {x4 : Int32} {x5 : Int32} {K : Hp → Prop} (h : wp_X6_init w a0 x1 x2 x3 x4 x5 K) : hx_Mv l yX6_init (ws9_X6_init) rm_X6_init G w [.ref a0, .int x1, .int x2, .int x3, .int x4, .int x5] K 0 0 := by
  refine Met.ofW (cc := cX6_init) (maxL := 6) (ret := none) (by decide +kernel) rfl ?_
  intro p e s m args below meth c s₁ B hml hv
  refine hx_in (own := RX6) (av := [.ref a0, .int x1, .int x2, .int x3, .int x4, .int x5]) (vl := [(0, va_rf (some a0)), (1, .int x1), (2, .int x2), (3, .int x3), (4, .int x4), (5, .int x5)]) rfl rfl (Nat.le_of_ble_eq_true rfl) rfl B hml hv ?_
  intro C0 hU hH hr hlocks hin ls hl
  have hx := C0.1
  have hb := C0.2.1
  have hts := C0.2.2.2.2
  refine hx_aload_n C0 dX6_init_0 rfl (lv_at hl 0 rfl) ?_
  refine W.objInit hx hb C0.2.2.2.1 (hts _ q716) (hts _ q93) (hts _ q94) rfl (by rw [C0.2.2.1]; exact hl.1) rfl dX6_init_1 (Nat.le_of_ble_eq_true rfl) (Nat.le_of_ble_eq_true rfl) ?_
  refine W.eq (g2 := F0 m 4 ls []) rfl ?_
  refine hx_aload_n C0 dX6_init_4 rfl (lv_at hl 0 rfl) ?_
  refine lv_iload_n hx hb dX6_init_5 rfl (lv_at hl 1 rfl) ?_
  refine hx_pV C0 hU hH (ci := 5) rfl in_X6 tyX6 tyX6_ok nmX6 0 (by decide) q717 (fun _ h9 => h9) (Or.inr ⟨rfl, hin rfl, rfl⟩) rfl rfl h dX6_init_6 (fun w H locs hH h => ?_)
  refine hx_aload_n C0 dX6_init_9 rfl (lv_at hl 0 rfl) ?_
  refine lv_iload_n hx hb dX6_init_10 rfl (lv_at hl 2 rfl) ?_
  refine hx_pV C0 hU hH (ci := 5) rfl in_X6 tyX6 tyX6_ok nmX6 1 (by decide) q719 (fun _ h9 => h9) (Or.inr ⟨rfl, hin rfl, rfl⟩) rfl rfl h dX6_init_11 (fun w H locs hH h => ?_)
  refine hx_aload_n C0 dX6_init_14 rfl (lv_at hl 0 rfl) ?_
  refine lv_iload_n hx hb dX6_init_15 rfl (lv_at hl 3 rfl) ?_
  refine hx_pV C0 hU hH (ci := 5) rfl in_X6 tyX6 tyX6_ok nmX6 2 (by decide) q721 (fun _ h9 => h9) (Or.inr ⟨rfl, hin rfl, rfl⟩) rfl rfl h dX6_init_16 (fun w H locs hH h => ?_)
  refine hx_aload_n C0 dX6_init_19 rfl (lv_at hl 0 rfl) ?_
  refine lv_iload hx hb dX6_init_20 (lv_at hl 4 rfl) ?_
  refine hx_pV C0 hU hH (ci := 5) rfl in_X6 tyX6 tyX6_ok nmX6 3 (by decide) q723 (fun _ h9 => h9) (Or.inr ⟨rfl, hin rfl, rfl⟩) rfl rfl h dX6_init_22 (fun w H locs hH h => ?_)
  refine hx_aload_n C0 dX6_init_25 rfl (lv_at hl 0 rfl) ?_
  refine lv_iload hx hb dX6_init_26 (lv_at hl 5 rfl) ?_
  refine hx_pV C0 hU hH (ci := 5) rfl in_X6 tyX6 tyX6_ok nmX6 4 (by decide) q725 (fun _ h9 => h9) (Or.inr ⟨rfl, hin rfl, rfl⟩) rfl rfl h dX6_init_28 (fun w H locs hH h => ?_)
  exact hx_retv C0 hH hr hlocks h (Nat.le_of_ble_eq_true rfl) (Nat.le_of_ble_eq_true rfl) dX6_init_31
def wp_X7_isSound_b32 (K : Hp → Int32 → Prop) (bk4 : Hp → Nat → Int32 → Int32 → Prop) (w : Hp) (a0 : Nat) (x1 : Int32) (x2 : Int32) : Prop :=
  nm (x2 + 1) fun i_1 => bk4 w a0 x1 i_1
def wp_X7_isSound_s4 (K : Hp → Int32 → Prop)  (bk4 : Hp → Nat → Int32 → Int32 → Prop) (w : Hp) (a0 : Nat) (x1 : Int32) (x2 : Int32) : Prop :=
  br ((40 : Int32) ≤ x2) (gI w a0 6 9 fun i_2 => br (x1 = i_2) (gI w a0 6 7 fun i_4 => br ((40 : Int32) < i_4) (K w (0 : Int32)) (K w (1 : Int32))) (K w (0 : Int32))) (gR w a0 6 6 fun r_6 => dR r_6 fun b_7 => aZ w b_7 x2 fun i_8 => br (i_8 = 0) (wp_X7_isSound_b32 K bk4 w a0 x1 x2) (nm (x1 + 1) fun i_10 => gI w a0 6 8 fun i_11 => br (x2 ≤ i_11) (wp_X7_isSound_b32 K bk4 w a0 i_10 x2) (K w (0 : Int32))))
def wp_X7_isSound_l4 (K : Hp → Int32 → Prop)  : ((Hp × Nat × Int32 × Int32) → Prop) → (Hp × Nat × Int32 × Int32) → Prop := fun bk q => wp_X7_isSound_s4 K  (fun w a0 x1 x2 => bk (w, a0, x1, x2)) q.1 q.2.1 q.2.2.1 q.2.2.2
def wp_X7_isSound_b4 (K : Hp → Int32 → Prop)  (w : Hp) (a0 : Nat) (x1 : Int32) (x2 : Int32) : Prop := lp (wp_X7_isSound_l4 K ) (w, a0, x1, x2)
def wp_X7_isSound (w : Hp) (a0 : Nat) (K : Hp → Int32 → Prop) : Prop :=
  wp_X7_isSound_b4 K w a0 (0 : Int32) (0 : Int32)
abbrev rm_X7_isSound : Room := { frames := 0, cells := 0, slots := 0, locals := 0 }
abbrev ws9_X7_isSound : List Cond := ws_ yX7_isSound cX7_isSound 3 (Option.some Jvm.ClassFile.FieldType.boolean)
abbrev Q9_X7_isSound (below : List Frame) (args : Array Value) (s : State) (G : hG) (K : Hp → Int32 → Prop) : State → Prop := MQ below (hx_Qi G K) args s 0 0 (hx_A G)
set_option maxHeartbeats 4000000 in
set_option maxRecDepth 100000 in
theorem wk_X7_isSound (l : Launch) {G : hG} {w : Hp} {a0 : Nat} {K : Hp → Int32 → Prop} (h : wp_X7_isSound w a0 K) : hx_Mi l yX7_isSound (ws9_X7_isSound) rm_X7_isSound G w [.ref a0] K 0 0 := by
  refine Met.ofW (cc := cX7_isSound) (maxL := 3) (ret := (Option.some Jvm.ClassFile.FieldType.boolean)) (by decide +kernel) rfl ?_
  intro p e s m args below meth c s₁ B hml hv
  refine hx_in (own := RX7) (av := [.ref a0]) (vl := [(0, va_rf (some a0))]) rfl rfl (Nat.le_of_ble_eq_true rfl) rfl B hml hv ?_
  intro C0 hU hH hr hlocks hin ls hl
  have hx := C0.1
  have hb := C0.2.1
  have hts := C0.2.2.2.2
  have L4 : ∀ (n4 : Nat) (w : Hp) (a0 : Nat) (x1 : Int32) (x2 : Int32), lpN (wp_X7_isSound_l4 K ) n4 (w, a0, x1, x2) → ∀ (H : Heap) (locs : List Loc) (ls : Array Slot), hx_H G w s H locs → lv_has ls 3 [(0, va_rf (some a0)), (1, .int x1), (2, .int x2)] → W p l e (headSpec (ws9_X7_isSound) rm_X7_isSound).room s m args below meth c H locs (0) (0) (Q9_X7_isSound below args s G K) (F0 m 4 ls []) := by
    intro n4
    induction n4 with
    | zero => intro w a0 x1 x2 h; exact h.elim
    | succ n4 ih4 =>
      intro w a0 x1 x2 h H locs ls hH hl
      have h : wp_X7_isSound_s4 K  (fun w a0 x1 x2 => lpN (wp_X7_isSound_l4 K ) n4 (w, a0, x1, x2)) w a0 x1 x2 := h
      have b32 : ∀ (w : Hp) (a0 : Nat) (x1 : Int32) (x2 : Int32), wp_X7_isSound_b32 K (fun w a0 x1 x2 => lpN (wp_X7_isSound_l4 K ) n4 (w, a0, x1, x2)) w a0 x1 x2 → ∀ (H : Heap) (locs : List Loc) (ls : Array Slot), hx_H G w s H locs → lv_has ls 3 [(0, va_rf (some a0)), (1, .int x1), (2, .int x2)] → W p l e (headSpec (ws9_X7_isSound) rm_X7_isSound).room s m args below meth c H locs (0) (0) (Q9_X7_isSound below args s G K) (F0 m 32 ls []) := by
        intro w a0 x1 x2 h H locs ls hH hl
        obtain ⟨i_1, ei_1⟩ : ∃ z, z = x2 + 1 := ⟨_, rfl⟩
        have h := h i_1 ei_1
        refine lv_iinc (k := 2) hx hb dX7_isSound_32 hl rfl (v := i_1) (by rw [ei_1]; rfl) (by decide) (lv' := [(2, .int i_1), (0, va_rf (some a0)), (1, .int x1)]) rfl (fun ls hl => ?_)
        refine lv_goto hx hb dX7_isSound_35 (tgt := 4) (by decide) ?_
        refine W.widen (k := 0) (n := 0) (Nat.le_of_ble_eq_true rfl) (Nat.le_of_ble_eq_true rfl) ?_
        exact ih4 _ _ _ _ h _ _ _ hH (lv_sub hl [1, 2, 0] rfl)
      refine lv_iload_n hx hb dX7_isSound_4 rfl (lv_at hl 2 rfl) ?_
      refine lv_bipush (v := 40) hx hb dX7_isSound_5 (by decide) ?_
      refine lv_icmp_ge hx hb dX7_isSound_7 (tgt := 38) (by decide) (fun c_1 => ?_) (fun c_1 => ?_)
      · have h := h.1 c_1
        refine lv_iload_n hx hb dX7_isSound_38 rfl (lv_at hl 1 rfl) ?_
        refine hx_aload_n C0 dX7_isSound_39 rfl (lv_at hl 0 rfl) ?_
        refine hx_gI C0 hU hH (ci := 6) rfl in_X7 9 (by decide) q819 (fun _ h9 => h9) h dX7_isSound_40 (fun i_2 h => ?_)
        refine lv_icmp_ne hx hb dX7_isSound_43 (tgt := 59) (by decide) (fun c_3 => ?_) (fun c_3 => ?_)
        · have h := h.2 c_3
          refine lv_iconst (v := 0) hx hb dX7_isSound_59 (by decide) ?_
          exact hx_retz C0 hH hr hlocks (Or.inl rfl) h (Nat.le_of_ble_eq_true rfl) (Nat.le_of_ble_eq_true rfl) dX7_isSound_60
        · have h := h.1 c_3
          refine hx_aload_n C0 dX7_isSound_46 rfl (lv_at hl 0 rfl) ?_
          refine hx_gI C0 hU hH (ci := 6) rfl in_X7 7 (by decide) q815 (fun _ h9 => h9) h dX7_isSound_47 (fun i_4 h => ?_)
          refine lv_bipush (v := 40) hx hb dX7_isSound_50 (by decide) ?_
          refine lv_icmp_gt hx hb dX7_isSound_52 (tgt := 59) (by decide) (fun c_5 => ?_) (fun c_5 => ?_)
          · have h := h.1 c_5
            refine lv_iconst (v := 0) hx hb dX7_isSound_59 (by decide) ?_
            exact hx_retz C0 hH hr hlocks (Or.inl rfl) h (Nat.le_of_ble_eq_true rfl) (Nat.le_of_ble_eq_true rfl) dX7_isSound_60
          · have h := h.2 c_5
            refine lv_iconst (v := 1) hx hb dX7_isSound_55 (by decide) ?_
            refine lv_goto hx hb dX7_isSound_56 (tgt := 60) (by decide) ?_
            exact hx_retz C0 hH hr hlocks (Or.inr rfl) h (Nat.le_of_ble_eq_true rfl) (Nat.le_of_ble_eq_true rfl) dX7_isSound_60
      · have h := h.2 c_1
        refine hx_aload_n C0 dX7_isSound_10 rfl (lv_at hl 0 rfl) ?_
        refine hx_gR C0 hU hH (ci := 6) rfl in_X7 6 (by decide) q814 (fun _ h9 => h9) h dX7_isSound_11 (fun r_6 h => ?_)
        refine lv_iload_n hx hb dX7_isSound_14 rfl (lv_at hl 2 rfl) ?_
        obtain ⟨b_7, rfl, h9⟩ := h
        have h := h9
        clear h9
        refine hx_aZ C0 hU hH h dX7_isSound_15 (fun i_8 h => ?_)
        refine lv_if_eq hx hb dX7_isSound_16 (tgt := 32) (by decide) (fun c_9 => ?_) (fun c_9 => ?_)
        · have h := h.1 c_9
          refine W.widen (k := 0) (n := 0) (Nat.le_of_ble_eq_true rfl) (Nat.le_of_ble_eq_true rfl) ?_
          exact b32 _ _ _ _ h _ _ _ hH (lv_sub hl [0, 1, 2] rfl)
        · have h := h.2 c_9
          obtain ⟨i_10, ei_10⟩ : ∃ z, z = x1 + 1 := ⟨_, rfl⟩
          have h := h i_10 ei_10
          refine lv_iinc (k := 1) hx hb dX7_isSound_19 hl rfl (v := i_10) (by rw [ei_10]; rfl) (by decide) (lv' := [(1, .int i_10), (0, va_rf (some a0)), (2, .int x2)]) rfl (fun ls hl => ?_)
          refine lv_iload_n hx hb dX7_isSound_22 rfl (lv_at hl 2 rfl) ?_
          refine hx_aload_n C0 dX7_isSound_23 rfl (lv_at hl 1 rfl) ?_
          refine hx_gI C0 hU hH (ci := 6) rfl in_X7 8 (by decide) q817 (fun _ h9 => h9) h dX7_isSound_24 (fun i_11 h => ?_)
          refine lv_icmp_le hx hb dX7_isSound_27 (tgt := 32) (by decide) (fun c_12 => ?_) (fun c_12 => ?_)
          · have h := h.1 c_12
            refine W.widen (k := 0) (n := 0) (Nat.le_of_ble_eq_true rfl) (Nat.le_of_ble_eq_true rfl) ?_
            exact b32 _ _ _ _ h _ _ _ hH (lv_sub hl [1, 0, 2] rfl)
          · have h := h.2 c_12
            refine lv_iconst (v := 0) hx hb dX7_isSound_30 (by decide) ?_
            exact hx_retz C0 hH hr hlocks (Or.inl rfl) h (Nat.le_of_ble_eq_true rfl) (Nat.le_of_ble_eq_true rfl) dX7_isSound_31
  refine lv_iconst (v := 0) hx hb dX7_isSound_0 (by decide) ?_
  refine lv_istore_n hx hb dX7_isSound_1 rfl hl (by decide) (lv' := [(1, .int (0 : Int32)), (0, va_rf (some a0))]) rfl (fun ls hl => ?_)
  refine lv_iconst (v := 0) hx hb dX7_isSound_2 (by decide) ?_
  refine lv_istore_n hx hb dX7_isSound_3 rfl hl (by decide) (lv' := [(2, .int (0 : Int32)), (1, .int (0 : Int32)), (0, va_rf (some a0))]) rfl (fun ls hl => ?_)
  obtain ⟨n9, h⟩ := h
  refine W.widen (k := 0) (n := 0) (Nat.le_of_ble_eq_true rfl) (Nat.le_of_ble_eq_true rfl) ?_
  exact L4 n9 _ _ _ _ h _ _ _ hH (lv_sub hl [2, 1, 0] rfl)
def wp_X7_init (w : Hp) (a0 : Nat) (x1 : Int32) (x2 : Int32) (x3 : Int32) (x4 : Int32) (x5 : Int32) (x6 : Int32) (K : Hp → Prop) : Prop :=
  nZ_ w (40 : Int32) 40 fun w b_1 => pV w a0 6 6 (va_rf (some b_1)) fun w => pV w a0 6 8 (.int (-1 : Int32)) fun w => pV w a0 6 0 (.int x1) fun w => pV w a0 6 1 (.int x2) fun w => pV w a0 6 2 (.int x3) fun w => pV w a0 6 3 (.int x4) fun w => pV w a0 6 4 (.int x5) fun w => pZ w a0 6 5 x6 fun w => K w
abbrev rm_X7_init : Room := { frames := 1, cells := 1, slots := 40, locals := 12 }
abbrev ws9_X7_init : List Cond := ws_ yX7_init cX7_init 7 none
abbrev Q9_X7_init (below : List Frame) (args : Array Value) (s : State) (G : hG) (K : Hp → Prop) : State → Prop := MQ below (hx_Qv G K) args s 1 40 (hx_A G)
set_option maxHeartbeats 4000000 in
set_option maxRecDepth 100000 in
theorem wk_X7_init (l : Launch) {G : hG} {w : Hp} {a0 : Nat} {x1 : Int32} {x2 : Int32} {x3 : Int32} {x4 : Int32} {x5 : Int32} {x6 : Int32} {K : Hp → Prop} (h : wp_X7_init w a0 x1 x2 x3 x4 x5 x6 K) : hx_Mv l yX7_init (ws9_X7_init) rm_X7_init G w [.ref a0, .int x1, .int x2, .int x3, .int x4, .int x5, .int x6] K 1 40 := by
  refine Met.ofW (cc := cX7_init) (maxL := 7) (ret := none) (by decide +kernel) rfl ?_
  intro p e s m args below meth c s₁ B hml hv
  refine hx_in (own := RX7) (av := [.ref a0, .int x1, .int x2, .int x3, .int x4, .int x5, .int x6]) (vl := [(0, va_rf (some a0)), (1, .int x1), (2, .int x2), (3, .int x3), (4, .int x4), (5, .int x5), (6, .int x6)]) rfl rfl (Nat.le_of_ble_eq_true rfl) rfl B hml hv ?_
  intro C0 hU hH hr hlocks hin ls hl
  have hx := C0.1
  have hb := C0.2.1
  have hts := C0.2.2.2.2
  refine hx_aload_n C0 dX7_init_0 rfl (lv_at hl 0 rfl) ?_
  refine W.objInit hx hb C0.2.2.2.1 (hts _ q801) (hts _ q93) (hts _ q94) rfl (by rw [C0.2.2.1]; exact hl.1) rfl dX7_init_1 (Nat.le_of_ble_eq_true rfl) (Nat.le_of_ble_eq_true rfl) ?_
  refine W.eq (g2 := F0 m 4 ls []) rfl ?_
  refine hx_aload_n C0 dX7_init_4 rfl (lv_at hl 0 rfl) ?_
  refine lv_bipush (v := 40) hx hb dX7_init_5 (by decide) ?_
  refine hx_nZ C0 hU hH (Nat.le_of_ble_eq_true rfl) (Nat.le_of_ble_eq_true rfl) (Nat.le_of_ble_eq_true rfl) h dX7_init_7 (fun b_1 w H locs hH h => ?_)
  refine hx_pV C0 hU hH (ci := 6) rfl in_X7 tyX7 tyX7_ok nmX7 6 (by decide) q814 (fun _ h9 => h9) (Or.inr ⟨rfl, hin rfl, rfl⟩) (hx_fa _ _).1 (hx_fa _ _).2 h dX7_init_9 (fun w H locs hH h => ?_)
  refine hx_aload_n C0 dX7_init_12 rfl (lv_at hl 0 rfl) ?_
  refine lv_iconst (v := -1) hx hb dX7_init_13 (by decide) ?_
  refine hx_pV C0 hU hH (ci := 6) rfl in_X7 tyX7 tyX7_ok nmX7 8 (by decide) q817 (fun _ h9 => h9) (Or.inl rfl) rfl rfl h dX7_init_14 (fun w H locs hH h => ?_)
  refine hx_aload_n C0 dX7_init_17 rfl (lv_at hl 0 rfl) ?_
  refine lv_iload_n hx hb dX7_init_18 rfl (lv_at hl 1 rfl) ?_
  refine hx_pV C0 hU hH (ci := 6) rfl in_X7 tyX7 tyX7_ok nmX7 0 (by decide) q802 (fun _ h9 => h9) (Or.inr ⟨rfl, hin rfl, rfl⟩) rfl rfl h dX7_init_19 (fun w H locs hH h => ?_)
  refine hx_aload_n C0 dX7_init_22 rfl (lv_at hl 0 rfl) ?_
  refine lv_iload_n hx hb dX7_init_23 rfl (lv_at hl 2 rfl) ?_
  refine hx_pV C0 hU hH (ci := 6) rfl in_X7 tyX7 tyX7_ok nmX7 1 (by decide) q804 (fun _ h9 => h9) (Or.inr ⟨rfl, hin rfl, rfl⟩) rfl rfl h dX7_init_24 (fun w H locs hH h => ?_)
  refine hx_aload_n C0 dX7_init_27 rfl (lv_at hl 0 rfl) ?_
  refine lv_iload_n hx hb dX7_init_28 rfl (lv_at hl 3 rfl) ?_
  refine hx_pV C0 hU hH (ci := 6) rfl in_X7 tyX7 tyX7_ok nmX7 2 (by decide) q806 (fun _ h9 => h9) (Or.inr ⟨rfl, hin rfl, rfl⟩) rfl rfl h dX7_init_29 (fun w H locs hH h => ?_)
  refine hx_aload_n C0 dX7_init_32 rfl (lv_at hl 0 rfl) ?_
  refine lv_iload hx hb dX7_init_33 (lv_at hl 4 rfl) ?_
  refine hx_pV C0 hU hH (ci := 6) rfl in_X7 tyX7 tyX7_ok nmX7 3 (by decide) q808 (fun _ h9 => h9) (Or.inr ⟨rfl, hin rfl, rfl⟩) rfl rfl h dX7_init_35 (fun w H locs hH h => ?_)
  refine hx_aload_n C0 dX7_init_38 rfl (lv_at hl 0 rfl) ?_
  refine lv_iload hx hb dX7_init_39 (lv_at hl 5 rfl) ?_
  refine hx_pV C0 hU hH (ci := 6) rfl in_X7 tyX7 tyX7_ok nmX7 4 (by decide) q810 (fun _ h9 => h9) (Or.inr ⟨rfl, hin rfl, rfl⟩) rfl rfl h dX7_init_41 (fun w H locs hH h => ?_)
  refine hx_aload_n C0 dX7_init_44 rfl (lv_at hl 0 rfl) ?_
  refine lv_iload hx hb dX7_init_45 (lv_at hl 6 rfl) ?_
  obtain ⟨hz, h⟩ := h
  refine hx_pV C0 hU hH (ci := 6) rfl in_X7 tyX7 tyX7_ok nmX7 5 (by decide) q812 (fun _ h9 => h9) (Or.inr ⟨rfl, hin rfl, rfl⟩) (hx_fz hz).1 (hx_fz hz).2 h dX7_init_47 (fun w H locs hH h => ?_)
  exact hx_retv C0 hH hr hlocks h (Nat.le_of_ble_eq_true rfl) (Nat.le_of_ble_eq_true rfl) dX7_init_50
def wp_X7_mayTake_b38 (K : Hp → Int32 → Prop)  (w : Hp)  : Prop :=
  K w (1 : Int32)
def wp_X7_mayTake (w : Hp) (a0 : Nat) (x1 : Int32) (K : Hp → Int32 → Prop) : Prop :=
  br (x1 < 0) (K w (0 : Int32)) (br ((40 : Int32) ≤ x1) (K w (0 : Int32)) (gR w a0 6 6 fun r_3 => dR r_3 fun b_4 => aZ w b_4 x1 fun i_5 => br (i_5 = 0) (gI w a0 6 8 fun i_7 => br (i_7 = (-1 : Int32)) (wp_X7_mayTake_b38 K w) (gI w a0 6 8 fun i_9 => br (x1 ≤ (i_9 - (16 : Int32))) (K w (0 : Int32)) (wp_X7_mayTake_b38 K w))) (K w (0 : Int32))))
abbrev rm_X7_mayTake : Room := { frames := 0, cells := 0, slots := 0, locals := 0 }
abbrev ws9_X7_mayTake : List Cond := ws_ yX7_mayTake cX7_mayTake 2 (Option.some Jvm.ClassFile.FieldType.boolean)
abbrev Q9_X7_mayTake (below : List Frame) (args : Array Value) (s : State) (G : hG) (K : Hp → Int32 → Prop) : State → Prop := MQ below (hx_Qi G K) args s 0 0 (hx_A G)
set_option maxHeartbeats 4000000 in
set_option maxRecDepth 100000 in
theorem wk_X7_mayTake (l : Launch) {G : hG} {w : Hp} {a0 : Nat} {x1 : Int32} {K : Hp → Int32 → Prop} (h : wp_X7_mayTake w a0 x1 K) : hx_Mi l yX7_mayTake (ws9_X7_mayTake) rm_X7_mayTake G w [.ref a0, .int x1] K 0 0 := by
  refine Met.ofW (cc := cX7_mayTake) (maxL := 2) (ret := (Option.some Jvm.ClassFile.FieldType.boolean)) (by decide +kernel) rfl ?_
  intro p e s m args below meth c s₁ B hml hv
  refine hx_in (own := RX7) (av := [.ref a0, .int x1]) (vl := [(0, va_rf (some a0)), (1, .int x1)]) rfl rfl (Nat.le_of_ble_eq_true rfl) rfl B hml hv ?_
  intro C0 hU hH hr hlocks hin ls hl
  have hx := C0.1
  have hb := C0.2.1
  have hts := C0.2.2.2.2
  have b38 : ∀ (w : Hp) , wp_X7_mayTake_b38 K  w  → ∀ (H : Heap) (locs : List Loc) (ls : Array Slot), hx_H G w s H locs → lv_has ls 2 [] → W p l e (headSpec (ws9_X7_mayTake) rm_X7_mayTake).room s m args below meth c H locs (0) (0) (Q9_X7_mayTake below args s G K) (F0 m 38 ls []) := by
    intro w  h H locs ls hH hl
    refine lv_iconst (v := 1) hx hb dX7_mayTake_38 (by decide) ?_
    refine lv_goto hx hb dX7_mayTake_39 (tgt := 43) (by decide) ?_
    exact hx_retz C0 hH hr hlocks (Or.inr rfl) h (Nat.le_of_ble_eq_true rfl) (Nat.le_of_ble_eq_true rfl) dX7_mayTake_43
  refine lv_iload_n hx hb dX7_mayTake_0 rfl (lv_at hl 1 rfl) ?_
  refine lv_if_lt hx hb dX7_mayTake_1 (tgt := 42) (by decide) (fun c_1 => ?_) (fun c_1 => ?_)
  · have h := h.1 c_1
    refine lv_iconst (v := 0) hx hb dX7_mayTake_42 (by decide) ?_
    exact hx_retz C0 hH hr hlocks (Or.inl rfl) h (Nat.le_of_ble_eq_true rfl) (Nat.le_of_ble_eq_true rfl) dX7_mayTake_43
  · have h := h.2 c_1
    refine lv_iload_n hx hb dX7_mayTake_4 rfl (lv_at hl 1 rfl) ?_
    refine lv_bipush (v := 40) hx hb dX7_mayTake_5 (by decide) ?_
    refine lv_icmp_ge hx hb dX7_mayTake_7 (tgt := 42) (by decide) (fun c_2 => ?_) (fun c_2 => ?_)
    · have h := h.1 c_2
      refine lv_iconst (v := 0) hx hb dX7_mayTake_42 (by decide) ?_
      exact hx_retz C0 hH hr hlocks (Or.inl rfl) h (Nat.le_of_ble_eq_true rfl) (Nat.le_of_ble_eq_true rfl) dX7_mayTake_43
    · have h := h.2 c_2
      refine hx_aload_n C0 dX7_mayTake_10 rfl (lv_at hl 0 rfl) ?_
      refine hx_gR C0 hU hH (ci := 6) rfl in_X7 6 (by decide) q814 (fun _ h9 => h9) h dX7_mayTake_11 (fun r_3 h => ?_)
      refine lv_iload_n hx hb dX7_mayTake_14 rfl (lv_at hl 1 rfl) ?_
      obtain ⟨b_4, rfl, h9⟩ := h
      have h := h9
      clear h9
      refine hx_aZ C0 hU hH h dX7_mayTake_15 (fun i_5 h => ?_)
      refine lv_if_ne hx hb dX7_mayTake_16 (tgt := 42) (by decide) (fun c_6 => ?_) (fun c_6 => ?_)
      · have h := h.2 c_6
        refine lv_iconst (v := 0) hx hb dX7_mayTake_42 (by decide) ?_
        exact hx_retz C0 hH hr hlocks (Or.inl rfl) h (Nat.le_of_ble_eq_true rfl) (Nat.le_of_ble_eq_true rfl) dX7_mayTake_43
      · have h := h.1 c_6
        refine hx_aload_n C0 dX7_mayTake_19 rfl (lv_at hl 0 rfl) ?_
        refine hx_gI C0 hU hH (ci := 6) rfl in_X7 8 (by decide) q817 (fun _ h9 => h9) h dX7_mayTake_20 (fun i_7 h => ?_)
        refine lv_iconst (v := -1) hx hb dX7_mayTake_23 (by decide) ?_
        refine lv_icmp_eq hx hb dX7_mayTake_24 (tgt := 38) (by decide) (fun c_8 => ?_) (fun c_8 => ?_)
        · have h := h.1 c_8
          refine W.widen (k := 0) (n := 0) (Nat.le_of_ble_eq_true rfl) (Nat.le_of_ble_eq_true rfl) ?_
          exact b38 _  h _ _ _ hH (lv_sub hl [] rfl)
        · have h := h.2 c_8
          refine lv_iload_n hx hb dX7_mayTake_27 rfl (lv_at hl 1 rfl) ?_
          refine hx_aload_n C0 dX7_mayTake_28 rfl (lv_at hl 0 rfl) ?_
          refine hx_gI C0 hU hH (ci := 6) rfl in_X7 8 (by decide) q817 (fun _ h9 => h9) h dX7_mayTake_29 (fun i_9 h => ?_)
          refine lv_bipush (v := 16) hx hb dX7_mayTake_32 (by decide) ?_
          refine lv_isub hx hb dX7_mayTake_34 ?_
          refine lv_icmp_le hx hb dX7_mayTake_35 (tgt := 42) (by decide) (fun c_10 => ?_) (fun c_10 => ?_)
          · have h := h.1 c_10
            refine lv_iconst (v := 0) hx hb dX7_mayTake_42 (by decide) ?_
            exact hx_retz C0 hH hr hlocks (Or.inl rfl) h (Nat.le_of_ble_eq_true rfl) (Nat.le_of_ble_eq_true rfl) dX7_mayTake_43
          · have h := h.2 c_10
            refine W.widen (k := 0) (n := 0) (Nat.le_of_ble_eq_true rfl) (Nat.le_of_ble_eq_true rfl) ?_
            exact b38 _  h _ _ _ hH (lv_sub hl [] rfl)
def wp_X7_take (w : Hp) (a0 : Nat) (x1 : Int32) (K : Hp → Prop) : Prop :=
  gR w a0 6 6 fun r_1 => dR r_1 fun b_2 => sZ w b_2 x1 (1 : Int32) fun w => gI w a0 6 9 fun i_3 => pV w a0 6 9 (.int (i_3 + (1 : Int32))) fun w => gI w a0 6 8 fun i_4 => wp_J4_max w i_4 x1 fun w i_5 => pV w a0 6 8 (.int i_5) fun w => K w
abbrev rm_X7_take : Room := { frames := 1, cells := 0, slots := 0, locals := 21 }
abbrev ws9_X7_take : List Cond := ws_ yX7_take cX7_take 2 none
abbrev Q9_X7_take (below : List Frame) (args : Array Value) (s : State) (G : hG) (K : Hp → Prop) : State → Prop := MQ below (hx_Qv G K) args s 0 0 (hx_A G)
set_option maxHeartbeats 4000000 in
set_option maxRecDepth 100000 in
theorem wk_X7_take (l : Launch) {G : hG} {w : Hp} {a0 : Nat} {x1 : Int32} {K : Hp → Prop} (h : wp_X7_take w a0 x1 K) : hx_Mv l yX7_take (ws9_X7_take) rm_X7_take G w [.ref a0, .int x1] K 0 0 := by
  refine Met.ofW (cc := cX7_take) (maxL := 2) (ret := none) (by decide +kernel) rfl ?_
  intro p e s m args below meth c s₁ B hml hv
  refine hx_in (own := RX7) (av := [.ref a0, .int x1]) (vl := [(0, va_rf (some a0)), (1, .int x1)]) rfl rfl (Nat.le_of_ble_eq_true rfl) rfl B hml hv ?_
  intro C0 hU hH hr hlocks hin ls hl
  have hx := C0.1
  have hb := C0.2.1
  have hts := C0.2.2.2.2
  refine hx_aload_n C0 dX7_take_0 rfl (lv_at hl 0 rfl) ?_
  refine hx_gR C0 hU hH (ci := 6) rfl in_X7 6 (by decide) q814 (fun _ h9 => h9) h dX7_take_1 (fun r_1 h => ?_)
  refine lv_iload_n hx hb dX7_take_4 rfl (lv_at hl 1 rfl) ?_
  refine lv_iconst (v := 1) hx hb dX7_take_5 (by decide) ?_
  obtain ⟨b_2, rfl, h9⟩ := h
  have h := h9
  clear h9
  refine hx_sZ C0 hU hH h dX7_take_6 (fun w H locs hH h => ?_)
  refine hx_aload_n C0 dX7_take_7 rfl (lv_at hl 0 rfl) ?_
  refine lv_dup hx hb dX7_take_8 rfl ?_
  refine hx_gI C0 hU hH (ci := 6) rfl in_X7 9 (by decide) q819 (fun _ h9 => h9) h dX7_take_9 (fun i_3 h => ?_)
  refine lv_iconst (v := 1) hx hb dX7_take_12 (by decide) ?_
  refine lv_iadd hx hb dX7_take_13 ?_
  refine hx_pV C0 hU hH (ci := 6) rfl in_X7 tyX7 tyX7_ok nmX7 9 (by decide) q819 (fun _ h9 => h9) (Or.inl rfl) rfl rfl h dX7_take_14 (fun w H locs hH h => ?_)
  refine hx_aload_n C0 dX7_take_17 rfl (lv_at hl 0 rfl) ?_
  refine hx_aload_n C0 dX7_take_18 rfl (lv_at hl 0 rfl) ?_
  refine hx_gI C0 hU hH (ci := 6) rfl in_X7 8 (by decide) q817 (fun _ h9 => h9) h dX7_take_19 (fun i_4 h => ?_)
  refine lv_iload_n hx hb dX7_take_22 rfl (lv_at hl 1 rfl) ?_
  refine hx_Si C0 hU hH (As := [.int i_4, .int x1]) (wk_J4_max l h) (va_cwS 2 hts (lw_S q875 q174 q66 q175) rfl rfl rfl (by decide +kernel) ⟨Nat.le_of_ble_eq_true rfl, Nat.le_of_ble_eq_true rfl⟩) rfl hl.1 rfl (Nat.le_of_ble_eq_true rfl) dX7_take_23 ⟨Nat.le_of_ble_eq_true rfl, Nat.le_of_ble_eq_true rfl⟩ (fun i_5 w H locs hH h => ?_)
  refine hx_pV C0 hU hH (ci := 6) rfl in_X7 tyX7 tyX7_ok nmX7 8 (by decide) q817 (fun _ h9 => h9) (Or.inl rfl) rfl rfl h dX7_take_26 (fun w H locs hH h => ?_)
  exact hx_retv C0 hH hr hlocks h (Nat.le_of_ble_eq_true rfl) (Nat.le_of_ble_eq_true rfl) dX7_take_29
