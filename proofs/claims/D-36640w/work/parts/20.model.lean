/-! BurrowlineModel (printed by gen/gen.py: weakest preconditions and walks) -/
set_option maxRecDepth 100000
def wp_X4_init_s241 (K : Hp → Prop) (bk234 : Hp → Nat → Int32 → Prop) (bk241 : Hp → Nat → Int32 → Int32 → Prop) (w : Hp) (a0 : Nat) (x1 : Int32) (x2 : Int32) : Prop :=
  br ((3 : Int32) ≤ x2) (nm (x1 + 1) fun i_2 => bk234 w a0 i_2) (gR w a0 3 10 fun r_3 => dR r_3 fun b_4 => aR w b_4 x1 fun r_5 => dR r_5 fun b_6 => sI w b_6 x2 ((10 : Int32) + ((10 : Int32) * x2)) fun w => gR w a0 3 17 fun r_7 => dR r_7 fun b_8 => aR w b_8 x1 fun r_9 => dR r_9 fun b_10 => sI w b_10 x2 (-1 : Int32) fun w => gR w a0 3 13 fun r_11 => dR r_11 fun b_12 => aR w b_12 x1 fun r_13 => dR r_13 fun b_14 => sI w b_14 x2 (-1 : Int32) fun w => nm (x2 + 1) fun i_15 => bk241 w a0 x1 i_15)
def wp_X4_init_l241 (K : Hp → Prop) (bk234 : Hp → Nat → Int32 → Prop) : ((Hp × Nat × Int32 × Int32) → Prop) → (Hp × Nat × Int32 × Int32) → Prop := fun bk q => wp_X4_init_s241 K bk234 (fun w a0 x1 x2 => bk (w, a0, x1, x2)) q.1 q.2.1 q.2.2.1 q.2.2.2
def wp_X4_init_b241 (K : Hp → Prop) (bk234 : Hp → Nat → Int32 → Prop) (w : Hp) (a0 : Nat) (x1 : Int32) (x2 : Int32) : Prop := lp (wp_X4_init_l241 K bk234) (w, a0, x1, x2)
def wp_X4_init_s234 (K : Hp → Prop)  (bk234 : Hp → Nat → Int32 → Prop) (w : Hp) (a0 : Nat) (x1 : Int32) : Prop :=
  br ((3 : Int32) ≤ x1) (K w) (wp_X4_init_b241 K bk234 w a0 x1 (0 : Int32))
def wp_X4_init_l234 (K : Hp → Prop)  : ((Hp × Nat × Int32) → Prop) → (Hp × Nat × Int32) → Prop := fun bk q => wp_X4_init_s234 K  (fun w a0 x1 => bk (w, a0, x1)) q.1 q.2.1 q.2.2
def wp_X4_init_b234 (K : Hp → Prop)  (w : Hp) (a0 : Nat) (x1 : Int32) : Prop := lp (wp_X4_init_l234 K ) (w, a0, x1)
def wp_X4_init (w : Hp) (a0 : Nat) (K : Hp → Prop) : Prop :=
  pV w a0 3 1 (.int (1 : Int32)) fun w => nI_ w (3 : Int32) 3 fun w b_1 => sI w b_1 (0 : Int32) (10 : Int32) fun w => sI w b_1 (1 : Int32) (20 : Int32) fun w => sI w b_1 (2 : Int32) (30 : Int32) fun w => pV w a0 3 4 (va_rf (some b_1)) fun w => nI_ w (3 : Int32) 3 fun w b_2 => pV w a0 3 5 (va_rf (some b_2)) fun w => nI_ w (3 : Int32) 3 fun w b_3 => pV w a0 3 6 (va_rf (some b_3)) fun w => nI_ w (11 : Int32) 11 fun w b_4 => pV w a0 3 7 (va_rf (some b_4)) fun w => nZ_ w (3 : Int32) 3 fun w b_5 => pV w a0 3 8 (va_rf (some b_5)) fun w => nMk [3, 8, 3] 8 w fun w b_6 => pV w a0 3 9 (va_rf (some b_6)) fun w => nMk [3, 3] 7 w fun w b_7 => pV w a0 3 10 (va_rf (some b_7)) fun w => nMk [3, 3] 7 w fun w b_8 => pV w a0 3 11 (va_rf (some b_8)) fun w => nMk [3, 3] 7 w fun w b_9 => pV w a0 3 12 (va_rf (some b_9)) fun w => nMk [3, 3] 7 w fun w b_10 => pV w a0 3 13 (va_rf (some b_10)) fun w => nMk [3, 3] 7 w fun w b_11 => pV w a0 3 14 (va_rf (some b_11)) fun w => nMk [3, 3] 7 w fun w b_12 => pV w a0 3 15 (va_rf (some b_12)) fun w => nMk [3, 3] 7 w fun w b_13 => pV w a0 3 16 (va_rf (some b_13)) fun w => nMk [3, 3] 7 w fun w b_14 => pV w a0 3 17 (va_rf (some b_14)) fun w => nMk [3, 3] 7 w fun w b_15 => pV w a0 3 18 (va_rf (some b_15)) fun w => nMk [3, 3] 7 w fun w b_16 => pV w a0 3 19 (va_rf (some b_16)) fun w => nMk [3, 3, 4, 3] 9 w fun w b_17 => pV w a0 3 20 (va_rf (some b_17)) fun w => nMk [3, 3, 3, 9] 9 w fun w b_18 => pV w a0 3 21 (va_rf (some b_18)) fun w => nMk [3, 3, 3, 40] 12 w fun w b_19 => pV w a0 3 22 (va_rf (some b_19)) fun w => nMk [60, 16] 7 w fun w b_20 => pV w a0 3 23 (va_rf (some b_20)) fun w => nMk [0, 5] 7 w fun w b_21 => pV w a0 3 25 (va_rf (some b_21)) fun w => wp_X4_init_b234 K w a0 (0 : Int32)
abbrev rm_X4_init : Room := { frames := 1, cells := 264, slots := 2819, locals := 12 }
abbrev ws9_X4_init : List Cond := ws_ yX4_init cX4_init 3 none
abbrev Q9_X4_init (below : List Frame) (args : Array Value) (s : State) (G : hG) (K : Hp → Prop) : State → Prop := MQ below (hx_Qv G K) args s 264 2819 (hx_A G)
set_option maxHeartbeats 4000000 in
set_option maxRecDepth 100000 in
theorem wk_X4_init (l : Launch) {G : hG} {w : Hp} {a0 : Nat} {K : Hp → Prop} (h : wp_X4_init w a0 K) : hx_Mv l yX4_init (ws9_X4_init) rm_X4_init G w [.ref a0] K 264 2819 := by
  refine Met.ofW (cc := cX4_init) (maxL := 3) (ret := none) (by decide +kernel) rfl ?_
  intro p e s m args below meth c s₁ B hml hv
  refine hx_in (own := RX4) (av := [.ref a0]) (vl := [(0, va_rf (some a0))]) rfl rfl (Nat.le_of_ble_eq_true rfl) rfl B hml hv ?_
  intro C0 hU hH hr hlocks hin ls hl
  have hx := C0.1
  have hb := C0.2.1
  have hts := C0.2.2.2.2
  have L234 : ∀ (n234 : Nat) (w : Hp) (a0 : Nat) (x1 : Int32), lpN (wp_X4_init_l234 K ) n234 (w, a0, x1) → ∀ (H : Heap) (locs : List Loc) (ls : Array Slot), hx_H G w s H locs → lv_has ls 3 [(0, va_rf (some a0)), (1, .int x1)] → W p l e (headSpec (ws9_X4_init) rm_X4_init).room s m args below meth c H locs (264) (2819) (Q9_X4_init below args s G K) (F0 m 234 ls []) := by
    intro n234
    induction n234 with
    | zero => intro w a0 x1 h; exact h.elim
    | succ n234 ih234 =>
      intro w a0 x1 h H locs ls hH hl
      have h : wp_X4_init_s234 K  (fun w a0 x1 => lpN (wp_X4_init_l234 K ) n234 (w, a0, x1)) w a0 x1 := h
      have L241 : ∀ (n241 : Nat) (w : Hp) (a0 : Nat) (x1 : Int32) (x2 : Int32), lpN (wp_X4_init_l241 K (fun w a0 x1 => lpN (wp_X4_init_l234 K ) n234 (w, a0, x1))) n241 (w, a0, x1, x2) → ∀ (H : Heap) (locs : List Loc) (ls : Array Slot), hx_H G w s H locs → lv_has ls 3 [(0, va_rf (some a0)), (1, .int x1), (2, .int x2)] → W p l e (headSpec (ws9_X4_init) rm_X4_init).room s m args below meth c H locs (264) (2819) (Q9_X4_init below args s G K) (F0 m 241 ls []) := by
        intro n241
        induction n241 with
        | zero => intro w a0 x1 x2 h; exact h.elim
        | succ n241 ih241 =>
          intro w a0 x1 x2 h H locs ls hH hl
          have h : wp_X4_init_s241 K (fun w a0 x1 => lpN (wp_X4_init_l234 K ) n234 (w, a0, x1)) (fun w a0 x1 x2 => lpN (wp_X4_init_l241 K (fun w a0 x1 => lpN (wp_X4_init_l234 K ) n234 (w, a0, x1))) n241 (w, a0, x1, x2)) w a0 x1 x2 := h
          refine lv_iload_n hx hb dX4_init_241 rfl (lv_at hl 2 rfl) ?_
          refine lv_iconst (v := 3) hx hb dX4_init_242 (by decide) ?_
          refine lv_icmp_ge hx hb dX4_init_243 (tgt := 285) (by decide) (fun c_1 => ?_) (fun c_1 => ?_)
          · have h := h.1 c_1
            obtain ⟨i_2, ei_2⟩ : ∃ z, z = x1 + 1 := ⟨_, rfl⟩
            have h := h i_2 ei_2
            refine lv_iinc (k := 1) hx hb dX4_init_285 hl rfl (v := i_2) (by rw [ei_2]; rfl) (by decide) (lv' := [(1, .int i_2), (0, va_rf (some a0)), (2, .int x2)]) rfl (fun ls hl => ?_)
            refine lv_goto hx hb dX4_init_288 (tgt := 234) (by decide) ?_
            refine W.widen (k := 264) (n := 2819) (Nat.le_of_ble_eq_true rfl) (Nat.le_of_ble_eq_true rfl) ?_
            exact ih234 _ _ _ h _ _ _ hH (lv_sub hl [1, 0] rfl)
          · have h := h.2 c_1
            refine hx_aload_n C0 dX4_init_246 rfl (lv_at hl 0 rfl) ?_
            refine hx_gR C0 hU hH (ci := 3) rfl in_X4 10 (by decide) q1081 (fun _ h9 => h9) h dX4_init_247 (fun r_3 h => ?_)
            refine lv_iload_n hx hb dX4_init_250 rfl (lv_at hl 1 rfl) ?_
            obtain ⟨b_4, rfl, h9⟩ := h
            have h := h9
            clear h9
            refine hx_aR C0 hU hH h dX4_init_251 (fun r_5 h => ?_)
            refine lv_iload_n hx hb dX4_init_252 rfl (lv_at hl 2 rfl) ?_
            refine lv_bipush (v := 10) hx hb dX4_init_253 (by decide) ?_
            refine lv_bipush (v := 10) hx hb dX4_init_255 (by decide) ?_
            refine lv_iload_n hx hb dX4_init_257 rfl (lv_at hl 2 rfl) ?_
            refine lv_imul hx hb dX4_init_258 ?_
            refine lv_iadd hx hb dX4_init_259 ?_
            obtain ⟨b_6, rfl, h9⟩ := h
            have h := h9
            clear h9
            refine hx_sI C0 hU hH h dX4_init_260 (fun w H locs hH h => ?_)
            refine hx_aload_n C0 dX4_init_261 rfl (lv_at hl 0 rfl) ?_
            refine hx_gR C0 hU hH (ci := 3) rfl in_X4 17 (by decide) q1088 (fun _ h9 => h9) h dX4_init_262 (fun r_7 h => ?_)
            refine lv_iload_n hx hb dX4_init_265 rfl (lv_at hl 1 rfl) ?_
            obtain ⟨b_8, rfl, h9⟩ := h
            have h := h9
            clear h9
            refine hx_aR C0 hU hH h dX4_init_266 (fun r_9 h => ?_)
            refine lv_iload_n hx hb dX4_init_267 rfl (lv_at hl 2 rfl) ?_
            refine lv_iconst (v := -1) hx hb dX4_init_268 (by decide) ?_
            obtain ⟨b_10, rfl, h9⟩ := h
            have h := h9
            clear h9
            refine hx_sI C0 hU hH h dX4_init_269 (fun w H locs hH h => ?_)
            refine hx_aload_n C0 dX4_init_270 rfl (lv_at hl 0 rfl) ?_
            refine hx_gR C0 hU hH (ci := 3) rfl in_X4 13 (by decide) q1084 (fun _ h9 => h9) h dX4_init_271 (fun r_11 h => ?_)
            refine lv_iload_n hx hb dX4_init_274 rfl (lv_at hl 1 rfl) ?_
            obtain ⟨b_12, rfl, h9⟩ := h
            have h := h9
            clear h9
            refine hx_aR C0 hU hH h dX4_init_275 (fun r_13 h => ?_)
            refine lv_iload_n hx hb dX4_init_276 rfl (lv_at hl 2 rfl) ?_
            refine lv_iconst (v := -1) hx hb dX4_init_277 (by decide) ?_
            obtain ⟨b_14, rfl, h9⟩ := h
            have h := h9
            clear h9
            refine hx_sI C0 hU hH h dX4_init_278 (fun w H locs hH h => ?_)
            obtain ⟨i_15, ei_15⟩ : ∃ z, z = x2 + 1 := ⟨_, rfl⟩
            have h := h i_15 ei_15
            refine lv_iinc (k := 2) hx hb dX4_init_279 hl rfl (v := i_15) (by rw [ei_15]; rfl) (by decide) (lv' := [(2, .int i_15), (0, va_rf (some a0)), (1, .int x1)]) rfl (fun ls hl => ?_)
            refine lv_goto hx hb dX4_init_282 (tgt := 241) (by decide) ?_
            refine W.widen (k := 264) (n := 2819) (Nat.le_of_ble_eq_true rfl) (Nat.le_of_ble_eq_true rfl) ?_
            exact ih241 _ _ _ _ h _ _ _ hH (lv_sub hl [1, 2, 0] rfl)
      refine lv_iload_n hx hb dX4_init_234 rfl (lv_at hl 1 rfl) ?_
      refine lv_iconst (v := 3) hx hb dX4_init_235 (by decide) ?_
      refine lv_icmp_ge hx hb dX4_init_236 (tgt := 291) (by decide) (fun c_1 => ?_) (fun c_1 => ?_)
      · have h := h.1 c_1
        exact hx_retv C0 hH hr hlocks h (Nat.le_of_ble_eq_true rfl) (Nat.le_of_ble_eq_true rfl) dX4_init_291
      · have h := h.2 c_1
        refine lv_iconst (v := 0) hx hb dX4_init_239 (by decide) ?_
        refine lv_istore_n hx hb dX4_init_240 rfl hl (by decide) (lv' := [(2, .int (0 : Int32)), (0, va_rf (some a0)), (1, .int x1)]) rfl (fun ls hl => ?_)
        obtain ⟨n9, h⟩ := h
        refine W.widen (k := 264) (n := 2819) (Nat.le_of_ble_eq_true rfl) (Nat.le_of_ble_eq_true rfl) ?_
        exact L241 n9 _ _ _ _ h _ _ _ hH (lv_sub hl [1, 2, 0] rfl)
  refine hx_aload_n C0 dX4_init_0 rfl (lv_at hl 0 rfl) ?_
  refine W.objInit hx hb C0.2.2.2.1 (hts _ q1061) (hts _ q93) (hts _ q94) rfl (by rw [C0.2.2.1]; exact hl.1) rfl dX4_init_1 (Nat.le_of_ble_eq_true rfl) (Nat.le_of_ble_eq_true rfl) ?_
  refine W.eq (g2 := F0 m 4 ls []) rfl ?_
  refine hx_aload_n C0 dX4_init_4 rfl (lv_at hl 0 rfl) ?_
  refine lv_iconst (v := 1) hx hb dX4_init_5 (by decide) ?_
  refine hx_pV C0 hU hH (ci := 3) rfl in_X4 tyX4 tyX4_ok nmX4 1 (by decide) q1072 (fun _ h9 => h9) (Or.inl rfl) rfl rfl h dX4_init_6 (fun w H locs hH h => ?_)
  refine hx_aload_n C0 dX4_init_9 rfl (lv_at hl 0 rfl) ?_
  refine lv_iconst (v := 3) hx hb dX4_init_10 (by decide) ?_
  refine hx_nI C0 hU hH (Nat.le_of_ble_eq_true rfl) (Nat.le_of_ble_eq_true rfl) (Nat.le_of_ble_eq_true rfl) h dX4_init_11 (fun b_1 w H locs hH h => ?_)
  refine lv_dup hx hb dX4_init_13 rfl ?_
  refine lv_iconst (v := 0) hx hb dX4_init_14 (by decide) ?_
  refine lv_bipush (v := 10) hx hb dX4_init_15 (by decide) ?_
  refine hx_sI C0 hU hH h dX4_init_17 (fun w H locs hH h => ?_)
  refine lv_dup hx hb dX4_init_18 rfl ?_
  refine lv_iconst (v := 1) hx hb dX4_init_19 (by decide) ?_
  refine lv_bipush (v := 20) hx hb dX4_init_20 (by decide) ?_
  refine hx_sI C0 hU hH h dX4_init_22 (fun w H locs hH h => ?_)
  refine lv_dup hx hb dX4_init_23 rfl ?_
  refine lv_iconst (v := 2) hx hb dX4_init_24 (by decide) ?_
  refine lv_bipush (v := 30) hx hb dX4_init_25 (by decide) ?_
  refine hx_sI C0 hU hH h dX4_init_27 (fun w H locs hH h => ?_)
  refine hx_pV C0 hU hH (ci := 3) rfl in_X4 tyX4 tyX4_ok nmX4 4 (by decide) q1075 (fun _ h9 => h9) (Or.inr ⟨rfl, hin rfl, rfl⟩) (hx_fa _ _).1 (hx_fa _ _).2 h dX4_init_28 (fun w H locs hH h => ?_)
  refine hx_aload_n C0 dX4_init_31 rfl (lv_at hl 0 rfl) ?_
  refine lv_iconst (v := 3) hx hb dX4_init_32 (by decide) ?_
  refine hx_nI C0 hU hH (Nat.le_of_ble_eq_true rfl) (Nat.le_of_ble_eq_true rfl) (Nat.le_of_ble_eq_true rfl) h dX4_init_33 (fun b_2 w H locs hH h => ?_)
  refine hx_pV C0 hU hH (ci := 3) rfl in_X4 tyX4 tyX4_ok nmX4 5 (by decide) q1076 (fun _ h9 => h9) (Or.inr ⟨rfl, hin rfl, rfl⟩) (hx_fa _ _).1 (hx_fa _ _).2 h dX4_init_35 (fun w H locs hH h => ?_)
  refine hx_aload_n C0 dX4_init_38 rfl (lv_at hl 0 rfl) ?_
  refine lv_iconst (v := 3) hx hb dX4_init_39 (by decide) ?_
  refine hx_nI C0 hU hH (Nat.le_of_ble_eq_true rfl) (Nat.le_of_ble_eq_true rfl) (Nat.le_of_ble_eq_true rfl) h dX4_init_40 (fun b_3 w H locs hH h => ?_)
  refine hx_pV C0 hU hH (ci := 3) rfl in_X4 tyX4 tyX4_ok nmX4 6 (by decide) q1077 (fun _ h9 => h9) (Or.inr ⟨rfl, hin rfl, rfl⟩) (hx_fa _ _).1 (hx_fa _ _).2 h dX4_init_42 (fun w H locs hH h => ?_)
  refine hx_aload_n C0 dX4_init_45 rfl (lv_at hl 0 rfl) ?_
  refine lv_bipush (v := 11) hx hb dX4_init_46 (by decide) ?_
  refine hx_nI C0 hU hH (Nat.le_of_ble_eq_true rfl) (Nat.le_of_ble_eq_true rfl) (Nat.le_of_ble_eq_true rfl) h dX4_init_48 (fun b_4 w H locs hH h => ?_)
  refine hx_pV C0 hU hH (ci := 3) rfl in_X4 tyX4 tyX4_ok nmX4 7 (by decide) q1078 (fun _ h9 => h9) (Or.inr ⟨rfl, hin rfl, rfl⟩) (hx_fa _ _).1 (hx_fa _ _).2 h dX4_init_50 (fun w H locs hH h => ?_)
  refine hx_aload_n C0 dX4_init_53 rfl (lv_at hl 0 rfl) ?_
  refine lv_iconst (v := 3) hx hb dX4_init_54 (by decide) ?_
  refine hx_nZ C0 hU hH (Nat.le_of_ble_eq_true rfl) (Nat.le_of_ble_eq_true rfl) (Nat.le_of_ble_eq_true rfl) h dX4_init_55 (fun b_5 w H locs hH h => ?_)
  refine hx_pV C0 hU hH (ci := 3) rfl in_X4 tyX4 tyX4_ok nmX4 8 (by decide) q1079 (fun _ h9 => h9) (Or.inr ⟨rfl, hin rfl, rfl⟩) (hx_fa _ _).1 (hx_fa _ _).2 h dX4_init_57 (fun w H locs hH h => ?_)
  refine hx_aload_n C0 dX4_init_60 rfl (lv_at hl 0 rfl) ?_
  refine lv_iconst (v := 3) hx hb dX4_init_61 (by decide) ?_
  refine lv_bipush (v := 8) hx hb dX4_init_62 (by decide) ?_
  refine lv_iconst (v := 3) hx hb dX4_init_64 (by decide) ?_
  refine hx_nM3 C0 hU hH 8 3 8 3 rfl (hU.1.2 8 _ rfl).2 q1062 h (Nat.le_of_ble_eq_true rfl) (Nat.le_of_ble_eq_true rfl) dX4_init_65 (fun b_6 w H locs hH h => ?_)
  refine hx_pV C0 hU hH (ci := 3) rfl in_X4 tyX4 tyX4_ok nmX4 9 (by decide) q1080 (fun _ h9 => h9) (Or.inr ⟨rfl, hin rfl, rfl⟩) (hx_fa _ _).1 (hx_fa _ _).2 h dX4_init_69 (fun w H locs hH h => ?_)
  refine hx_aload_n C0 dX4_init_72 rfl (lv_at hl 0 rfl) ?_
  refine lv_iconst (v := 3) hx hb dX4_init_73 (by decide) ?_
  refine lv_iconst (v := 3) hx hb dX4_init_74 (by decide) ?_
  refine hx_nM2 C0 hU hH 7 3 3 rfl (hU.1.2 7 _ rfl).2 q1064 h (Nat.le_of_ble_eq_true rfl) (Nat.le_of_ble_eq_true rfl) dX4_init_75 (fun b_7 w H locs hH h => ?_)
  refine hx_pV C0 hU hH (ci := 3) rfl in_X4 tyX4 tyX4_ok nmX4 10 (by decide) q1081 (fun _ h9 => h9) (Or.inr ⟨rfl, hin rfl, rfl⟩) (hx_fa _ _).1 (hx_fa _ _).2 h dX4_init_79 (fun w H locs hH h => ?_)
  refine hx_aload_n C0 dX4_init_82 rfl (lv_at hl 0 rfl) ?_
  refine lv_iconst (v := 3) hx hb dX4_init_83 (by decide) ?_
  refine lv_iconst (v := 3) hx hb dX4_init_84 (by decide) ?_
  refine hx_nM2 C0 hU hH 7 3 3 rfl (hU.1.2 7 _ rfl).2 q1064 h (Nat.le_of_ble_eq_true rfl) (Nat.le_of_ble_eq_true rfl) dX4_init_85 (fun b_8 w H locs hH h => ?_)
  refine hx_pV C0 hU hH (ci := 3) rfl in_X4 tyX4 tyX4_ok nmX4 11 (by decide) q1082 (fun _ h9 => h9) (Or.inr ⟨rfl, hin rfl, rfl⟩) (hx_fa _ _).1 (hx_fa _ _).2 h dX4_init_89 (fun w H locs hH h => ?_)
  refine hx_aload_n C0 dX4_init_92 rfl (lv_at hl 0 rfl) ?_
  refine lv_iconst (v := 3) hx hb dX4_init_93 (by decide) ?_
  refine lv_iconst (v := 3) hx hb dX4_init_94 (by decide) ?_
  refine hx_nM2 C0 hU hH 7 3 3 rfl (hU.1.2 7 _ rfl).2 q1064 h (Nat.le_of_ble_eq_true rfl) (Nat.le_of_ble_eq_true rfl) dX4_init_95 (fun b_9 w H locs hH h => ?_)
  refine hx_pV C0 hU hH (ci := 3) rfl in_X4 tyX4 tyX4_ok nmX4 12 (by decide) q1083 (fun _ h9 => h9) (Or.inr ⟨rfl, hin rfl, rfl⟩) (hx_fa _ _).1 (hx_fa _ _).2 h dX4_init_99 (fun w H locs hH h => ?_)
  refine hx_aload_n C0 dX4_init_102 rfl (lv_at hl 0 rfl) ?_
  refine lv_iconst (v := 3) hx hb dX4_init_103 (by decide) ?_
  refine lv_iconst (v := 3) hx hb dX4_init_104 (by decide) ?_
  refine hx_nM2 C0 hU hH 7 3 3 rfl (hU.1.2 7 _ rfl).2 q1064 h (Nat.le_of_ble_eq_true rfl) (Nat.le_of_ble_eq_true rfl) dX4_init_105 (fun b_10 w H locs hH h => ?_)
  refine hx_pV C0 hU hH (ci := 3) rfl in_X4 tyX4 tyX4_ok nmX4 13 (by decide) q1084 (fun _ h9 => h9) (Or.inr ⟨rfl, hin rfl, rfl⟩) (hx_fa _ _).1 (hx_fa _ _).2 h dX4_init_109 (fun w H locs hH h => ?_)
  refine hx_aload_n C0 dX4_init_112 rfl (lv_at hl 0 rfl) ?_
  refine lv_iconst (v := 3) hx hb dX4_init_113 (by decide) ?_
  refine lv_iconst (v := 3) hx hb dX4_init_114 (by decide) ?_
  refine hx_nM2 C0 hU hH 7 3 3 rfl (hU.1.2 7 _ rfl).2 q1064 h (Nat.le_of_ble_eq_true rfl) (Nat.le_of_ble_eq_true rfl) dX4_init_115 (fun b_11 w H locs hH h => ?_)
  refine hx_pV C0 hU hH (ci := 3) rfl in_X4 tyX4 tyX4_ok nmX4 14 (by decide) q1085 (fun _ h9 => h9) (Or.inr ⟨rfl, hin rfl, rfl⟩) (hx_fa _ _).1 (hx_fa _ _).2 h dX4_init_119 (fun w H locs hH h => ?_)
  refine hx_aload_n C0 dX4_init_122 rfl (lv_at hl 0 rfl) ?_
  refine lv_iconst (v := 3) hx hb dX4_init_123 (by decide) ?_
  refine lv_iconst (v := 3) hx hb dX4_init_124 (by decide) ?_
  refine hx_nM2 C0 hU hH 7 3 3 rfl (hU.1.2 7 _ rfl).2 q1064 h (Nat.le_of_ble_eq_true rfl) (Nat.le_of_ble_eq_true rfl) dX4_init_125 (fun b_12 w H locs hH h => ?_)
  refine hx_pV C0 hU hH (ci := 3) rfl in_X4 tyX4 tyX4_ok nmX4 15 (by decide) q1086 (fun _ h9 => h9) (Or.inr ⟨rfl, hin rfl, rfl⟩) (hx_fa _ _).1 (hx_fa _ _).2 h dX4_init_129 (fun w H locs hH h => ?_)
  refine hx_aload_n C0 dX4_init_132 rfl (lv_at hl 0 rfl) ?_
  refine lv_iconst (v := 3) hx hb dX4_init_133 (by decide) ?_
  refine lv_iconst (v := 3) hx hb dX4_init_134 (by decide) ?_
  refine hx_nM2 C0 hU hH 7 3 3 rfl (hU.1.2 7 _ rfl).2 q1064 h (Nat.le_of_ble_eq_true rfl) (Nat.le_of_ble_eq_true rfl) dX4_init_135 (fun b_13 w H locs hH h => ?_)
  refine hx_pV C0 hU hH (ci := 3) rfl in_X4 tyX4 tyX4_ok nmX4 16 (by decide) q1087 (fun _ h9 => h9) (Or.inr ⟨rfl, hin rfl, rfl⟩) (hx_fa _ _).1 (hx_fa _ _).2 h dX4_init_139 (fun w H locs hH h => ?_)
  refine hx_aload_n C0 dX4_init_142 rfl (lv_at hl 0 rfl) ?_
  refine lv_iconst (v := 3) hx hb dX4_init_143 (by decide) ?_
  refine lv_iconst (v := 3) hx hb dX4_init_144 (by decide) ?_
  refine hx_nM2 C0 hU hH 7 3 3 rfl (hU.1.2 7 _ rfl).2 q1064 h (Nat.le_of_ble_eq_true rfl) (Nat.le_of_ble_eq_true rfl) dX4_init_145 (fun b_14 w H locs hH h => ?_)
  refine hx_pV C0 hU hH (ci := 3) rfl in_X4 tyX4 tyX4_ok nmX4 17 (by decide) q1088 (fun _ h9 => h9) (Or.inr ⟨rfl, hin rfl, rfl⟩) (hx_fa _ _).1 (hx_fa _ _).2 h dX4_init_149 (fun w H locs hH h => ?_)
  refine hx_aload_n C0 dX4_init_152 rfl (lv_at hl 0 rfl) ?_
  refine lv_iconst (v := 3) hx hb dX4_init_153 (by decide) ?_
  refine lv_iconst (v := 3) hx hb dX4_init_154 (by decide) ?_
  refine hx_nM2 C0 hU hH 7 3 3 rfl (hU.1.2 7 _ rfl).2 q1064 h (Nat.le_of_ble_eq_true rfl) (Nat.le_of_ble_eq_true rfl) dX4_init_155 (fun b_15 w H locs hH h => ?_)
  refine hx_pV C0 hU hH (ci := 3) rfl in_X4 tyX4 tyX4_ok nmX4 18 (by decide) q1089 (fun _ h9 => h9) (Or.inr ⟨rfl, hin rfl, rfl⟩) (hx_fa _ _).1 (hx_fa _ _).2 h dX4_init_159 (fun w H locs hH h => ?_)
  refine hx_aload_n C0 dX4_init_162 rfl (lv_at hl 0 rfl) ?_
  refine lv_iconst (v := 3) hx hb dX4_init_163 (by decide) ?_
  refine lv_iconst (v := 3) hx hb dX4_init_164 (by decide) ?_
  refine hx_nM2 C0 hU hH 7 3 3 rfl (hU.1.2 7 _ rfl).2 q1064 h (Nat.le_of_ble_eq_true rfl) (Nat.le_of_ble_eq_true rfl) dX4_init_165 (fun b_16 w H locs hH h => ?_)
  refine hx_pV C0 hU hH (ci := 3) rfl in_X4 tyX4 tyX4_ok nmX4 19 (by decide) q1090 (fun _ h9 => h9) (Or.inr ⟨rfl, hin rfl, rfl⟩) (hx_fa _ _).1 (hx_fa _ _).2 h dX4_init_169 (fun w H locs hH h => ?_)
  refine hx_aload_n C0 dX4_init_172 rfl (lv_at hl 0 rfl) ?_
  refine lv_iconst (v := 3) hx hb dX4_init_173 (by decide) ?_
  refine lv_iconst (v := 3) hx hb dX4_init_174 (by decide) ?_
  refine lv_iconst (v := 4) hx hb dX4_init_175 (by decide) ?_
  refine lv_iconst (v := 3) hx hb dX4_init_176 (by decide) ?_
  refine hx_nM4 C0 hU hH 9 3 3 4 3 rfl (hU.1.2 9 _ rfl).2 q1065 h (Nat.le_of_ble_eq_true rfl) (Nat.le_of_ble_eq_true rfl) dX4_init_177 (fun b_17 w H locs hH h => ?_)
  refine hx_pV C0 hU hH (ci := 3) rfl in_X4 tyX4 tyX4_ok nmX4 20 (by decide) q1091 (fun _ h9 => h9) (Or.inr ⟨rfl, hin rfl, rfl⟩) (hx_fa _ _).1 (hx_fa _ _).2 h dX4_init_181 (fun w H locs hH h => ?_)
  refine hx_aload_n C0 dX4_init_184 rfl (lv_at hl 0 rfl) ?_
  refine lv_iconst (v := 3) hx hb dX4_init_185 (by decide) ?_
  refine lv_iconst (v := 3) hx hb dX4_init_186 (by decide) ?_
  refine lv_iconst (v := 3) hx hb dX4_init_187 (by decide) ?_
  refine lv_bipush (v := 9) hx hb dX4_init_188 (by decide) ?_
  refine hx_nM4 C0 hU hH 9 3 3 3 9 rfl (hU.1.2 9 _ rfl).2 q1065 h (Nat.le_of_ble_eq_true rfl) (Nat.le_of_ble_eq_true rfl) dX4_init_190 (fun b_18 w H locs hH h => ?_)
  refine hx_pV C0 hU hH (ci := 3) rfl in_X4 tyX4 tyX4_ok nmX4 21 (by decide) q1092 (fun _ h9 => h9) (Or.inr ⟨rfl, hin rfl, rfl⟩) (hx_fa _ _).1 (hx_fa _ _).2 h dX4_init_194 (fun w H locs hH h => ?_)
  refine hx_aload_n C0 dX4_init_197 rfl (lv_at hl 0 rfl) ?_
  refine lv_iconst (v := 3) hx hb dX4_init_198 (by decide) ?_
  refine lv_iconst (v := 3) hx hb dX4_init_199 (by decide) ?_
  refine lv_iconst (v := 3) hx hb dX4_init_200 (by decide) ?_
  refine lv_bipush (v := 40) hx hb dX4_init_201 (by decide) ?_
  refine hx_nM4 C0 hU hH 12 3 3 3 40 rfl (hU.1.2 12 _ rfl).2 q1067 h (Nat.le_of_ble_eq_true rfl) (Nat.le_of_ble_eq_true rfl) dX4_init_203 (fun b_19 w H locs hH h => ?_)
  refine hx_pV C0 hU hH (ci := 3) rfl in_X4 tyX4 tyX4_ok nmX4 22 (by decide) q1093 (fun _ h9 => h9) (Or.inr ⟨rfl, hin rfl, rfl⟩) (hx_fa _ _).1 (hx_fa _ _).2 h dX4_init_207 (fun w H locs hH h => ?_)
  refine hx_aload_n C0 dX4_init_210 rfl (lv_at hl 0 rfl) ?_
  refine lv_bipush (v := 60) hx hb dX4_init_211 (by decide) ?_
  refine lv_bipush (v := 16) hx hb dX4_init_213 (by decide) ?_
  refine hx_nM2 C0 hU hH 7 60 16 rfl (hU.1.2 7 _ rfl).2 q1064 h (Nat.le_of_ble_eq_true rfl) (Nat.le_of_ble_eq_true rfl) dX4_init_215 (fun b_20 w H locs hH h => ?_)
  refine hx_pV C0 hU hH (ci := 3) rfl in_X4 tyX4 tyX4_ok nmX4 23 (by decide) q1094 (fun _ h9 => h9) (Or.inl rfl) (hx_fa _ _).1 (hx_fa _ _).2 h dX4_init_219 (fun w H locs hH h => ?_)
  refine hx_aload_n C0 dX4_init_222 rfl (lv_at hl 0 rfl) ?_
  refine lv_iconst (v := 0) hx hb dX4_init_223 (by decide) ?_
  refine lv_iconst (v := 5) hx hb dX4_init_224 (by decide) ?_
  refine hx_nM2 C0 hU hH 7 0 5 rfl (hU.1.2 7 _ rfl).2 q1064 h (Nat.le_of_ble_eq_true rfl) (Nat.le_of_ble_eq_true rfl) dX4_init_225 (fun b_21 w H locs hH h => ?_)
  refine hx_pV C0 hU hH (ci := 3) rfl in_X4 tyX4 tyX4_ok nmX4 25 (by decide) q1096 (fun _ h9 => h9) (Or.inl rfl) (hx_fa _ _).1 (hx_fa _ _).2 h dX4_init_229 (fun w H locs hH h => ?_)
  refine lv_iconst (v := 0) hx hb dX4_init_232 (by decide) ?_
  refine lv_istore_n hx hb dX4_init_233 rfl hl (by decide) (lv' := [(1, .int (0 : Int32)), (0, va_rf (some a0))]) rfl (fun ls hl => ?_)
  obtain ⟨n9, h⟩ := h
  refine W.widen (k := 264) (n := 2819) (Nat.le_of_ble_eq_true rfl) (Nat.le_of_ble_eq_true rfl) ?_
  exact L234 n9 _ _ _ h _ _ _ hH (lv_sub hl [1, 0] rfl)
def wp_X4_thrown (w : Hp) (a0 : Nat) (K : Hp → Int32 → Prop) : Prop :=
  gI w a0 3 2 fun i_1 => K w i_1
abbrev rm_X4_thrown : Room := { frames := 0, cells := 0, slots := 0, locals := 0 }
abbrev ws9_X4_thrown : List Cond := ws_ yX4_thrown cX4_thrown 1 (Option.some Jvm.ClassFile.FieldType.int)
abbrev Q9_X4_thrown (below : List Frame) (args : Array Value) (s : State) (G : hG) (K : Hp → Int32 → Prop) : State → Prop := MQ below (hx_Qi G K) args s 0 0 (hx_A G)
set_option maxHeartbeats 4000000 in
set_option maxRecDepth 100000 in
theorem wk_X4_thrown (l : Launch) {G : hG} {w : Hp} {a0 : Nat} {K : Hp → Int32 → Prop} (h : wp_X4_thrown w a0 K) : hx_Mi l yX4_thrown (ws9_X4_thrown) rm_X4_thrown G w [.ref a0] K 0 0 := by
  refine Met.ofW (cc := cX4_thrown) (maxL := 1) (ret := (Option.some Jvm.ClassFile.FieldType.int)) (by decide +kernel) rfl ?_
  intro p e s m args below meth c s₁ B hml hv
  refine hx_in (own := RX4) (av := [.ref a0]) (vl := [(0, va_rf (some a0))]) rfl rfl (Nat.le_of_ble_eq_true rfl) rfl B hml hv ?_
  intro C0 hU hH hr hlocks hin ls hl
  have hx := C0.1
  have hb := C0.2.1
  have hts := C0.2.2.2.2
  refine hx_aload_n C0 dX4_thrown_0 rfl (lv_at hl 0 rfl) ?_
  refine hx_gI C0 hU hH (ci := 3) rfl in_X4 2 (by decide) q1073 (fun _ h9 => h9) h dX4_thrown_1 (fun i_1 h => ?_)
  exact hx_reti C0 hH hr hlocks h (Nat.le_of_ble_eq_true rfl) (Nat.le_of_ble_eq_true rfl) dX4_thrown_4
def wp_X4_isBetween (w : Hp) (x0 : Int64) (x2 : Int64) (x4 : Int64) (K : Hp → Int32 → Prop) : Prop :=
  br ((lg_cmp x0 x2) < 0) (K w (0 : Int32)) (br (0 < (lg_cmp x0 x4)) (K w (0 : Int32)) (K w (1 : Int32)))
abbrev rm_X4_isBetween : Room := { frames := 0, cells := 0, slots := 0, locals := 0 }
abbrev ws9_X4_isBetween : List Cond := ws_ yX4_isBetween cX4_isBetween 6 (Option.some Jvm.ClassFile.FieldType.boolean)
abbrev Q9_X4_isBetween (below : List Frame) (args : Array Value) (s : State) (G : hG) (K : Hp → Int32 → Prop) : State → Prop := MQ below (hx_Qi G K) args s 0 0 (hx_A G)
set_option maxHeartbeats 4000000 in
set_option maxRecDepth 100000 in
theorem wk_X4_isBetween (l : Launch) {G : hG} {w : Hp} {x0 : Int64} {x2 : Int64} {x4 : Int64} {K : Hp → Int32 → Prop} (h : wp_X4_isBetween w x0 x2 x4 K) : hx_Mi l yX4_isBetween (ws9_X4_isBetween) rm_X4_isBetween G w [.long x0, .long x2, .long x4] K 0 0 := by
  refine Met.ofW (cc := cX4_isBetween) (maxL := 6) (ret := (Option.some Jvm.ClassFile.FieldType.boolean)) (by decide +kernel) rfl ?_
  intro p e s m args below meth c s₁ B hml hv
  refine hx_in (own := RX4) (av := [.long x0, .long x2, .long x4]) (vl := [(0, .long x0), (2, .long x2), (4, .long x4)]) rfl rfl (Nat.le_of_ble_eq_true rfl) rfl B hml hv ?_
  intro C0 hU hH hr hlocks hin ls hl
  have hx := C0.1
  have hb := C0.2.1
  have hts := C0.2.2.2.2
  refine lv_lload_n hx hb dX4_isBetween_0 rfl (lv_at hl 0 rfl) ?_
  refine lv_lload_n hx hb dX4_isBetween_1 rfl (lv_at hl 1 rfl) ?_
  refine W.lcmp hx hb dX4_isBetween_2 ?_
  refine lv_if_lt hx hb dX4_isBetween_3 (tgt := 17) (by decide) (fun c_1 => ?_) (fun c_1 => ?_)
  · have h := h.1 c_1
    refine lv_iconst (v := 0) hx hb dX4_isBetween_17 (by decide) ?_
    exact hx_retz C0 hH hr hlocks (Or.inl rfl) h (Nat.le_of_ble_eq_true rfl) (Nat.le_of_ble_eq_true rfl) dX4_isBetween_18
  · have h := h.2 c_1
    refine lv_lload_n hx hb dX4_isBetween_6 rfl (lv_at hl 0 rfl) ?_
    refine lv_lload hx hb dX4_isBetween_7 (lv_at hl 2 rfl) ?_
    refine W.lcmp hx hb dX4_isBetween_9 ?_
    refine lv_if_gt hx hb dX4_isBetween_10 (tgt := 17) (by decide) (fun c_2 => ?_) (fun c_2 => ?_)
    · have h := h.1 c_2
      refine lv_iconst (v := 0) hx hb dX4_isBetween_17 (by decide) ?_
      exact hx_retz C0 hH hr hlocks (Or.inl rfl) h (Nat.le_of_ble_eq_true rfl) (Nat.le_of_ble_eq_true rfl) dX4_isBetween_18
    · have h := h.2 c_2
      refine lv_iconst (v := 1) hx hb dX4_isBetween_13 (by decide) ?_
      refine lv_goto hx hb dX4_isBetween_14 (tgt := 18) (by decide) ?_
      exact hx_retz C0 hH hr hlocks (Or.inr rfl) h (Nat.le_of_ble_eq_true rfl) (Nat.le_of_ble_eq_true rfl) dX4_isBetween_18
def wp_X4_isWrong (w : Hp) (a0 : Nat) (x1 : Int32) (K : Hp → Int32 → Prop) : Prop :=
  pV w a0 3 2 (.int x1) fun w => br (x1 = 0) (K w (0 : Int32)) (K w (1 : Int32))
abbrev rm_X4_isWrong : Room := { frames := 0, cells := 0, slots := 0, locals := 0 }
abbrev ws9_X4_isWrong : List Cond := ws_ yX4_isWrong cX4_isWrong 2 (Option.some Jvm.ClassFile.FieldType.boolean)
abbrev Q9_X4_isWrong (below : List Frame) (args : Array Value) (s : State) (G : hG) (K : Hp → Int32 → Prop) : State → Prop := MQ below (hx_Qi G K) args s 0 0 (hx_A G)
set_option maxHeartbeats 4000000 in
set_option maxRecDepth 100000 in
theorem wk_X4_isWrong (l : Launch) {G : hG} {w : Hp} {a0 : Nat} {x1 : Int32} {K : Hp → Int32 → Prop} (h : wp_X4_isWrong w a0 x1 K) : hx_Mi l yX4_isWrong (ws9_X4_isWrong) rm_X4_isWrong G w [.ref a0, .int x1] K 0 0 := by
  refine Met.ofW (cc := cX4_isWrong) (maxL := 2) (ret := (Option.some Jvm.ClassFile.FieldType.boolean)) (by decide +kernel) rfl ?_
  intro p e s m args below meth c s₁ B hml hv
  refine hx_in (own := RX4) (av := [.ref a0, .int x1]) (vl := [(0, va_rf (some a0)), (1, .int x1)]) rfl rfl (Nat.le_of_ble_eq_true rfl) rfl B hml hv ?_
  intro C0 hU hH hr hlocks hin ls hl
  have hx := C0.1
  have hb := C0.2.1
  have hts := C0.2.2.2.2
  refine hx_aload_n C0 dX4_isWrong_0 rfl (lv_at hl 0 rfl) ?_
  refine lv_iload_n hx hb dX4_isWrong_1 rfl (lv_at hl 1 rfl) ?_
  refine hx_pV C0 hU hH (ci := 3) rfl in_X4 tyX4 tyX4_ok nmX4 2 (by decide) q1073 (fun _ h9 => h9) (Or.inl rfl) rfl rfl h dX4_isWrong_2 (fun w H locs hH h => ?_)
  refine lv_iload_n hx hb dX4_isWrong_5 rfl (lv_at hl 1 rfl) ?_
  refine lv_if_eq hx hb dX4_isWrong_6 (tgt := 13) (by decide) (fun c_1 => ?_) (fun c_1 => ?_)
  · have h := h.1 c_1
    refine lv_iconst (v := 0) hx hb dX4_isWrong_13 (by decide) ?_
    exact hx_retz C0 hH hr hlocks (Or.inl rfl) h (Nat.le_of_ble_eq_true rfl) (Nat.le_of_ble_eq_true rfl) dX4_isWrong_14
  · have h := h.2 c_1
    refine lv_iconst (v := 1) hx hb dX4_isWrong_9 (by decide) ?_
    refine lv_goto hx hb dX4_isWrong_10 (tgt := 14) (by decide) ?_
    exact hx_retz C0 hH hr hlocks (Or.inr rfl) h (Nat.le_of_ble_eq_true rfl) (Nat.le_of_ble_eq_true rfl) dX4_isWrong_14
def wp_X4_pass_b33 (K : Hp → Int32 → Prop)  (w : Hp) (a0 : Nat) (x1 : Int32) (t0 : Int32) (at1 : Nat) : Prop :=
  isO w at1 3 <| wp_X4_isWrong w at1 t0 fun w i_1 => br (i_1 = 0) (gI w a0 3 0 fun i_3 => pV w a0 3 0 (.int (i_3 + x1)) fun w => gI w a0 3 0 fun i_4 => K w i_4) (K w (0 : Int32))
def wp_X4_pass (w : Hp) (a0 : Nat) (x1 : Int32) (K : Hp → Int32 → Prop) : Prop :=
  wp_X4_isBetween w (x1.toInt64) (1 : Int64) (60 : Int64) fun w i_1 => br (i_1 = 0) (wp_X4_pass_b33 K w a0 x1 (1 : Int32) a0) (gI w a0 3 0 fun i_3 => br ((i_3 + x1) ≤ (500000000 : Int32)) (wp_X4_pass_b33 K w a0 x1 (0 : Int32) a0) (wp_X4_pass_b33 K w a0 x1 (2 : Int32) a0))
abbrev rm_X4_pass : Room := { frames := 1, cells := 0, slots := 0, locals := 25 }
abbrev ws9_X4_pass : List Cond := ws_ yX4_pass cX4_pass 2 (Option.some Jvm.ClassFile.FieldType.int)
abbrev Q9_X4_pass (below : List Frame) (args : Array Value) (s : State) (G : hG) (K : Hp → Int32 → Prop) : State → Prop := MQ below (hx_Qi G K) args s 0 0 (hx_A G)
set_option maxHeartbeats 4000000 in
set_option maxRecDepth 100000 in
theorem wk_X4_pass (l : Launch) {G : hG} {w : Hp} {a0 : Nat} {x1 : Int32} {K : Hp → Int32 → Prop} (h : wp_X4_pass w a0 x1 K) : hx_Mi l yX4_pass (ws9_X4_pass) rm_X4_pass G w [.ref a0, .int x1] K 0 0 := by
  refine Met.ofW (cc := cX4_pass) (maxL := 2) (ret := (Option.some Jvm.ClassFile.FieldType.int)) (by decide +kernel) rfl ?_
  intro p e s m args below meth c s₁ B hml hv
  refine hx_in (own := RX4) (av := [.ref a0, .int x1]) (vl := [(0, va_rf (some a0)), (1, .int x1)]) rfl rfl (Nat.le_of_ble_eq_true rfl) rfl B hml hv ?_
  intro C0 hU hH hr hlocks hin ls hl
  have hx := C0.1
  have hb := C0.2.1
  have hts := C0.2.2.2.2
  have b33 : ∀ (w : Hp) (a0 : Nat) (x1 : Int32) (t0 : Int32) (at1 : Nat), wp_X4_pass_b33 K  w a0 x1 t0 at1 → ∀ (H : Heap) (locs : List Loc) (ls : Array Slot), hx_H G w s H locs → lv_has ls 2 [(0, va_rf (some a0)), (1, .int x1)] → W p l e (headSpec (ws9_X4_pass) rm_X4_pass).room s m args below meth c H locs (0) (0) (Q9_X4_pass below args s G K) (F0 m 33 ls [.int t0, va_rf (some at1)]) := by
    intro w a0 x1 t0 at1 h H locs ls hH hl
    obtain ⟨ho, h⟩ := h
    refine hx_Vi C0 hU hH (As := [.int t0]) (wk_X4_isWrong l h) (cwV 1 hts (lw_V q1166 q1168 qs34 q71 q1169) rfl rfl rfl (by decide +kernel) ⟨Nat.le_of_ble_eq_true rfl, Nat.le_of_ble_eq_true rfl⟩) (hx_recv hU hH (ci := 3) rfl ho) rfl hl.1 rfl (Nat.le_of_ble_eq_true rfl) dX4_pass_33 ⟨Nat.le_of_ble_eq_true rfl, Nat.le_of_ble_eq_true rfl⟩ (fun i_1 w H locs hH h => ?_)
    refine lv_if_eq hx hb dX4_pass_36 (tgt := 41) (by decide) (fun c_2 => ?_) (fun c_2 => ?_)
    · have h := h.1 c_2
      refine hx_aload_n C0 dX4_pass_41 rfl (lv_at hl 0 rfl) ?_
      refine lv_dup hx hb dX4_pass_42 rfl ?_
      refine hx_gI C0 hU hH (ci := 3) rfl in_X4 0 (by decide) q1071 (fun _ h9 => h9) h dX4_pass_43 (fun i_3 h => ?_)
      refine lv_iload_n hx hb dX4_pass_46 rfl (lv_at hl 1 rfl) ?_
      refine lv_iadd hx hb dX4_pass_47 ?_
      refine hx_pV C0 hU hH (ci := 3) rfl in_X4 tyX4 tyX4_ok nmX4 0 (by decide) q1071 (fun _ h9 => h9) (Or.inl rfl) rfl rfl h dX4_pass_48 (fun w H locs hH h => ?_)
      refine hx_aload_n C0 dX4_pass_51 rfl (lv_at hl 0 rfl) ?_
      refine hx_gI C0 hU hH (ci := 3) rfl in_X4 0 (by decide) q1071 (fun _ h9 => h9) h dX4_pass_52 (fun i_4 h => ?_)
      exact hx_reti C0 hH hr hlocks h (Nat.le_of_ble_eq_true rfl) (Nat.le_of_ble_eq_true rfl) dX4_pass_55
    · have h := h.2 c_2
      refine lv_iconst (v := 0) hx hb dX4_pass_39 (by decide) ?_
      exact hx_reti C0 hH hr hlocks h (Nat.le_of_ble_eq_true rfl) (Nat.le_of_ble_eq_true rfl) dX4_pass_40
  refine hx_aload_n C0 dX4_pass_0 rfl (lv_at hl 0 rfl) ?_
  refine lv_iload_n hx hb dX4_pass_1 rfl (lv_at hl 1 rfl) ?_
  refine lv_i2l hx hb dX4_pass_2 rfl ?_
  refine lv_lconst (v := 1) hx hb dX4_pass_3 (by decide) ?_
  refine lv_ldc2 (v := 60) hx hb C0.2.2.2.1 (hts _ q1161) dX4_pass_4 ?_
  refine hx_Si C0 hU hH (As := [.long (x1.toInt64), .long (1 : Int64), .long (60 : Int64)]) (wk_X4_isBetween l h) (va_cwS 3 hts (lw_S q1162 q1163 q71 q1164) rfl rfl rfl (by decide +kernel) ⟨Nat.le_of_ble_eq_true rfl, Nat.le_of_ble_eq_true rfl⟩) rfl hl.1 rfl (Nat.le_of_ble_eq_true rfl) dX4_pass_7 ⟨Nat.le_of_ble_eq_true rfl, Nat.le_of_ble_eq_true rfl⟩ (fun i_1 w H locs hH h => ?_)
  refine lv_if_ne hx hb dX4_pass_10 (tgt := 17) (by decide) (fun c_2 => ?_) (fun c_2 => ?_)
  · have h := h.2 c_2
    refine hx_aload_n C0 dX4_pass_17 rfl (lv_at hl 0 rfl) ?_
    refine hx_gI C0 hU hH (ci := 3) rfl in_X4 0 (by decide) q1071 (fun _ h9 => h9) h dX4_pass_18 (fun i_3 h => ?_)
    refine lv_iload_n hx hb dX4_pass_21 rfl (lv_at hl 1 rfl) ?_
    refine lv_iadd hx hb dX4_pass_22 ?_
    refine lv_ldc (v := 500000000) hx hb C0.2.2.2.1 (hts _ q1165) dX4_pass_23 ?_
    refine lv_icmp_le hx hb dX4_pass_25 (tgt := 32) (by decide) (fun c_4 => ?_) (fun c_4 => ?_)
    · have h := h.1 c_4
      refine lv_iconst (v := 0) hx hb dX4_pass_32 (by decide) ?_
      refine W.widen (k := 0) (n := 0) (Nat.le_of_ble_eq_true rfl) (Nat.le_of_ble_eq_true rfl) ?_
      exact b33 _ _ _ _ _ h _ _ _ hH (lv_sub hl [0, 1] rfl)
    · have h := h.2 c_4
      refine lv_iconst (v := 2) hx hb dX4_pass_28 (by decide) ?_
      refine lv_goto hx hb dX4_pass_29 (tgt := 33) (by decide) ?_
      refine W.widen (k := 0) (n := 0) (Nat.le_of_ble_eq_true rfl) (Nat.le_of_ble_eq_true rfl) ?_
      exact b33 _ _ _ _ _ h _ _ _ hH (lv_sub hl [0, 1] rfl)
  · have h := h.1 c_2
    refine lv_iconst (v := 1) hx hb dX4_pass_13 (by decide) ?_
    refine lv_goto hx hb dX4_pass_14 (tgt := 33) (by decide) ?_
    refine W.widen (k := 0) (n := 0) (Nat.le_of_ble_eq_true rfl) (Nat.le_of_ble_eq_true rfl) ?_
    exact b33 _ _ _ _ _ h _ _ _ hH (lv_sub hl [0, 1] rfl)
def wp_X4_isEnd (w : Hp) (x0 : Int32) (K : Hp → Int32 → Prop) : Prop :=
  wp_X4_isBetween w (x0.toInt64) (0 : Int64) (2 : Int64) fun w i_1 => gd (i_1 = 0 ∨ i_1 = 1) <| K w i_1
abbrev rm_X4_isEnd : Room := { frames := 1, cells := 0, slots := 0, locals := 25 }
abbrev ws9_X4_isEnd : List Cond := ws_ yX4_isEnd cX4_isEnd 1 (Option.some Jvm.ClassFile.FieldType.boolean)
abbrev Q9_X4_isEnd (below : List Frame) (args : Array Value) (s : State) (G : hG) (K : Hp → Int32 → Prop) : State → Prop := MQ below (hx_Qi G K) args s 0 0 (hx_A G)
set_option maxHeartbeats 4000000 in
set_option maxRecDepth 100000 in
theorem wk_X4_isEnd (l : Launch) {G : hG} {w : Hp} {x0 : Int32} {K : Hp → Int32 → Prop} (h : wp_X4_isEnd w x0 K) : hx_Mi l yX4_isEnd (ws9_X4_isEnd) rm_X4_isEnd G w [.int x0] K 0 0 := by
  refine Met.ofW (cc := cX4_isEnd) (maxL := 1) (ret := (Option.some Jvm.ClassFile.FieldType.boolean)) (by decide +kernel) rfl ?_
  intro p e s m args below meth c s₁ B hml hv
  refine hx_in (own := RX4) (av := [.int x0]) (vl := [(0, .int x0)]) rfl rfl (Nat.le_of_ble_eq_true rfl) rfl B hml hv ?_
  intro C0 hU hH hr hlocks hin ls hl
  have hx := C0.1
  have hb := C0.2.1
  have hts := C0.2.2.2.2
  refine lv_iload_n hx hb dX4_isEnd_0 rfl (lv_at hl 0 rfl) ?_
  refine lv_i2l hx hb dX4_isEnd_1 rfl ?_
  refine lv_lconst (v := 0) hx hb dX4_isEnd_2 (by decide) ?_
  refine lv_ldc2 (v := 2) hx hb C0.2.2.2.1 (hts _ q1178) dX4_isEnd_3 ?_
  refine hx_Si C0 hU hH (As := [.long (x0.toInt64), .long (0 : Int64), .long (2 : Int64)]) (wk_X4_isBetween l h) (va_cwS 3 hts (lw_S q1162 q1163 q71 q1164) rfl rfl rfl (by decide +kernel) ⟨Nat.le_of_ble_eq_true rfl, Nat.le_of_ble_eq_true rfl⟩) rfl hl.1 rfl (Nat.le_of_ble_eq_true rfl) dX4_isEnd_6 ⟨Nat.le_of_ble_eq_true rfl, Nat.le_of_ble_eq_true rfl⟩ (fun i_1 w H locs hH h => ?_)
  obtain ⟨hz, h⟩ := h
  exact hx_retz C0 hH hr hlocks hz h (Nat.le_of_ble_eq_true rfl) (Nat.le_of_ble_eq_true rfl) dX4_isEnd_9
def wp_X4_move_b71 (K : Hp → Int32 → Prop)  (w : Hp) (a0 : Nat) (x1 : Int32) (x2 : Int32) (t0 : Int32) (at1 : Nat) : Prop :=
  isO w at1 3 <| wp_X4_isWrong w at1 t0 fun w i_1 => br (i_1 = 0) (gR w a0 3 4 fun r_3 => dR r_3 fun b_4 => aI w b_4 x1 fun i_5 => gR w a0 3 4 fun r_6 => dR r_6 fun b_7 => sI w b_7 x1 x2 fun w => K w i_5) (K w (0 : Int32))
def wp_X4_move_b42 (K : Hp → Int32 → Prop) (bk13 : Hp → Nat → Int32 → Int32 → Int32 → Int32 → Prop) (w : Hp) (a0 : Nat) (x1 : Int32) (x2 : Int32) (x4 : Int32) (t0 : Int32) (t1 : Int32) : Prop :=
  nm (t1 &&& t0) fun i_1 => nm (x4 + 1) fun i_2 => bk13 w a0 x1 x2 i_1 i_2
def wp_X4_move_b37 (K : Hp → Int32 → Prop) (bk13 : Hp → Nat → Int32 → Int32 → Int32 → Int32 → Prop) (w : Hp) (a0 : Nat) (x1 : Int32) (x2 : Int32) (x4 : Int32) (t0 : Int32) : Prop :=
  wp_X4_move_b42 K bk13 w a0 x1 x2 x4 (1 : Int32) t0
def wp_X4_move_s13 (K : Hp → Int32 → Prop)  (bk13 : Hp → Nat → Int32 → Int32 → Int32 → Int32 → Prop) (w : Hp) (a0 : Nat) (x1 : Int32) (x2 : Int32) (x3 : Int32) (x4 : Int32) : Prop :=
  br ((3 : Int32) ≤ x4) (wp_X4_isEnd w x1 fun w i_2 => br (i_2 = 0) (wp_X4_move_b71 K w a0 x1 x2 (1 : Int32) a0) (br (x3 = 0) (wp_X4_move_b71 K w a0 x1 x2 (2 : Int32) a0) (wp_X4_move_b71 K w a0 x1 x2 (0 : Int32) a0))) (br (x4 = x1) (wp_X4_move_b37 K bk13 w a0 x1 x2 x4 x3) (gR w a0 3 4 fun r_6 => dR r_6 fun b_7 => aI w b_7 x4 fun i_8 => br (i_8 = x2) (wp_X4_move_b42 K bk13 w a0 x1 x2 x4 (0 : Int32) x3) (wp_X4_move_b37 K bk13 w a0 x1 x2 x4 x3)))
def wp_X4_move_l13 (K : Hp → Int32 → Prop)  : ((Hp × Nat × Int32 × Int32 × Int32 × Int32) → Prop) → (Hp × Nat × Int32 × Int32 × Int32 × Int32) → Prop := fun bk q => wp_X4_move_s13 K  (fun w a0 x1 x2 x3 x4 => bk (w, a0, x1, x2, x3, x4)) q.1 q.2.1 q.2.2.1 q.2.2.2.1 q.2.2.2.2.1 q.2.2.2.2.2
def wp_X4_move_b13 (K : Hp → Int32 → Prop)  (w : Hp) (a0 : Nat) (x1 : Int32) (x2 : Int32) (x3 : Int32) (x4 : Int32) : Prop := lp (wp_X4_move_l13 K ) (w, a0, x1, x2, x3, x4)
def wp_X4_move (w : Hp) (a0 : Nat) (x1 : Int32) (x2 : Int32) (K : Hp → Int32 → Prop) : Prop :=
  wp_X4_isBetween w (x2.toInt64) (1 : Int64) (99 : Int64) fun w i_1 => wp_X4_move_b13 K w a0 x1 x2 i_1 (0 : Int32)
abbrev rm_X4_move : Room := { frames := 2, cells := 0, slots := 0, locals := 45 }
abbrev ws9_X4_move : List Cond := ws_ yX4_move cX4_move 5 (Option.some Jvm.ClassFile.FieldType.int)
abbrev Q9_X4_move (below : List Frame) (args : Array Value) (s : State) (G : hG) (K : Hp → Int32 → Prop) : State → Prop := MQ below (hx_Qi G K) args s 0 0 (hx_A G)
set_option maxHeartbeats 4000000 in
set_option maxRecDepth 100000 in
theorem wk_X4_move (l : Launch) {G : hG} {w : Hp} {a0 : Nat} {x1 : Int32} {x2 : Int32} {K : Hp → Int32 → Prop} (h : wp_X4_move w a0 x1 x2 K) : hx_Mi l yX4_move (ws9_X4_move) rm_X4_move G w [.ref a0, .int x1, .int x2] K 0 0 := by
  refine Met.ofW (cc := cX4_move) (maxL := 5) (ret := (Option.some Jvm.ClassFile.FieldType.int)) (by decide +kernel) rfl ?_
  intro p e s m args below meth c s₁ B hml hv
  refine hx_in (own := RX4) (av := [.ref a0, .int x1, .int x2]) (vl := [(0, va_rf (some a0)), (1, .int x1), (2, .int x2)]) rfl rfl (Nat.le_of_ble_eq_true rfl) rfl B hml hv ?_
  intro C0 hU hH hr hlocks hin ls hl
  have hx := C0.1
  have hb := C0.2.1
  have hts := C0.2.2.2.2
  have b71 : ∀ (w : Hp) (a0 : Nat) (x1 : Int32) (x2 : Int32) (t0 : Int32) (at1 : Nat), wp_X4_move_b71 K  w a0 x1 x2 t0 at1 → ∀ (H : Heap) (locs : List Loc) (ls : Array Slot), hx_H G w s H locs → lv_has ls 5 [(0, va_rf (some a0)), (1, .int x1), (2, .int x2)] → W p l e (headSpec (ws9_X4_move) rm_X4_move).room s m args below meth c H locs (0) (0) (Q9_X4_move below args s G K) (F0 m 71 ls [.int t0, va_rf (some at1)]) := by
    intro w a0 x1 x2 t0 at1 h H locs ls hH hl
    obtain ⟨ho, h⟩ := h
    refine hx_Vi C0 hU hH (As := [.int t0]) (wk_X4_isWrong l h) (cwV 1 hts (lw_V q1166 q1168 qs34 q71 q1169) rfl rfl rfl (by decide +kernel) ⟨Nat.le_of_ble_eq_true rfl, Nat.le_of_ble_eq_true rfl⟩) (hx_recv hU hH (ci := 3) rfl ho) rfl hl.1 rfl (Nat.le_of_ble_eq_true rfl) dX4_move_71 ⟨Nat.le_of_ble_eq_true rfl, Nat.le_of_ble_eq_true rfl⟩ (fun i_1 w H locs hH h => ?_)
    refine lv_if_eq hx hb dX4_move_74 (tgt := 79) (by decide) (fun c_2 => ?_) (fun c_2 => ?_)
    · have h := h.1 c_2
      refine hx_aload_n C0 dX4_move_79 rfl (lv_at hl 0 rfl) ?_
      refine hx_gR C0 hU hH (ci := 3) rfl in_X4 4 (by decide) q1075 (fun _ h9 => h9) h dX4_move_80 (fun r_3 h => ?_)
      refine lv_iload_n hx hb dX4_move_83 rfl (lv_at hl 1 rfl) ?_
      obtain ⟨b_4, rfl, h9⟩ := h
      have h := h9
      clear h9
      refine hx_aI C0 hU hH h dX4_move_84 (fun i_5 h => ?_)
      refine lv_istore hx hb dX4_move_85 hl (by decide) (lv' := [(4, .int i_5), (0, va_rf (some a0)), (1, .int x1), (2, .int x2)]) rfl (fun ls hl => ?_)
      refine hx_aload_n C0 dX4_move_87 rfl (lv_at hl 1 rfl) ?_
      refine hx_gR C0 hU hH (ci := 3) rfl in_X4 4 (by decide) q1075 (fun _ h9 => h9) h dX4_move_88 (fun r_6 h => ?_)
      refine lv_iload_n hx hb dX4_move_91 rfl (lv_at hl 2 rfl) ?_
      refine lv_iload_n hx hb dX4_move_92 rfl (lv_at hl 3 rfl) ?_
      obtain ⟨b_7, rfl, h9⟩ := h
      have h := h9
      clear h9
      refine hx_sI C0 hU hH h dX4_move_93 (fun w H locs hH h => ?_)
      refine lv_iload hx hb dX4_move_94 (lv_at hl 0 rfl) ?_
      exact hx_reti C0 hH hr hlocks h (Nat.le_of_ble_eq_true rfl) (Nat.le_of_ble_eq_true rfl) dX4_move_96
    · have h := h.2 c_2
      refine lv_iconst (v := 0) hx hb dX4_move_77 (by decide) ?_
      exact hx_reti C0 hH hr hlocks h (Nat.le_of_ble_eq_true rfl) (Nat.le_of_ble_eq_true rfl) dX4_move_78
  have L13 : ∀ (n13 : Nat) (w : Hp) (a0 : Nat) (x1 : Int32) (x2 : Int32) (x3 : Int32) (x4 : Int32), lpN (wp_X4_move_l13 K ) n13 (w, a0, x1, x2, x3, x4) → ∀ (H : Heap) (locs : List Loc) (ls : Array Slot), hx_H G w s H locs → lv_has ls 5 [(0, va_rf (some a0)), (1, .int x1), (2, .int x2), (3, .int x3), (4, .int x4)] → W p l e (headSpec (ws9_X4_move) rm_X4_move).room s m args below meth c H locs (0) (0) (Q9_X4_move below args s G K) (F0 m 13 ls []) := by
    intro n13
    induction n13 with
    | zero => intro w a0 x1 x2 x3 x4 h; exact h.elim
    | succ n13 ih13 =>
      intro w a0 x1 x2 x3 x4 h H locs ls hH hl
      have h : wp_X4_move_s13 K  (fun w a0 x1 x2 x3 x4 => lpN (wp_X4_move_l13 K ) n13 (w, a0, x1, x2, x3, x4)) w a0 x1 x2 x3 x4 := h
      have b42 : ∀ (w : Hp) (a0 : Nat) (x1 : Int32) (x2 : Int32) (x4 : Int32) (t0 : Int32) (t1 : Int32), wp_X4_move_b42 K (fun w a0 x1 x2 x3 x4 => lpN (wp_X4_move_l13 K ) n13 (w, a0, x1, x2, x3, x4)) w a0 x1 x2 x4 t0 t1 → ∀ (H : Heap) (locs : List Loc) (ls : Array Slot), hx_H G w s H locs → lv_has ls 5 [(0, va_rf (some a0)), (1, .int x1), (2, .int x2), (4, .int x4)] → W p l e (headSpec (ws9_X4_move) rm_X4_move).room s m args below meth c H locs (0) (0) (Q9_X4_move below args s G K) (F0 m 42 ls [.int t0, .int t1]) := by
        intro w a0 x1 x2 x4 t0 t1 h H locs ls hH hl
        refine lv_iand hx hb dX4_move_42 ?_
        refine lv_topi (fun i_1 ei_1 => ?_)
        have h := h i_1 ei_1
        refine lv_istore_n hx hb dX4_move_43 rfl hl (by decide) (lv' := [(3, .int i_1), (0, va_rf (some a0)), (1, .int x1), (2, .int x2), (4, .int x4)]) rfl (fun ls hl => ?_)
        obtain ⟨i_2, ei_2⟩ : ∃ z, z = x4 + 1 := ⟨_, rfl⟩
        have h := h i_2 ei_2
        refine lv_iinc (k := 4) hx hb dX4_move_44 hl rfl (v := i_2) (by rw [ei_2]; rfl) (by decide) (lv' := [(4, .int i_2), (3, .int i_1), (0, va_rf (some a0)), (1, .int x1), (2, .int x2)]) rfl (fun ls hl => ?_)
        refine lv_goto hx hb dX4_move_47 (tgt := 13) (by decide) ?_
        refine W.widen (k := 0) (n := 0) (Nat.le_of_ble_eq_true rfl) (Nat.le_of_ble_eq_true rfl) ?_
        exact ih13 _ _ _ _ _ _ h _ _ _ hH (lv_sub hl [2, 3, 4, 1, 0] rfl)
      have b37 : ∀ (w : Hp) (a0 : Nat) (x1 : Int32) (x2 : Int32) (x4 : Int32) (t0 : Int32), wp_X4_move_b37 K (fun w a0 x1 x2 x3 x4 => lpN (wp_X4_move_l13 K ) n13 (w, a0, x1, x2, x3, x4)) w a0 x1 x2 x4 t0 → ∀ (H : Heap) (locs : List Loc) (ls : Array Slot), hx_H G w s H locs → lv_has ls 5 [(0, va_rf (some a0)), (1, .int x1), (2, .int x2), (4, .int x4)] → W p l e (headSpec (ws9_X4_move) rm_X4_move).room s m args below meth c H locs (0) (0) (Q9_X4_move below args s G K) (F0 m 37 ls [.int t0]) := by
        intro w a0 x1 x2 x4 t0 h H locs ls hH hl
        refine lv_iconst (v := 1) hx hb dX4_move_37 (by decide) ?_
        refine lv_goto hx hb dX4_move_38 (tgt := 42) (by decide) ?_
        refine W.widen (k := 0) (n := 0) (Nat.le_of_ble_eq_true rfl) (Nat.le_of_ble_eq_true rfl) ?_
        exact b42 _ _ _ _ _ _ _ h _ _ _ hH (lv_sub hl [0, 1, 2, 3] rfl)
      refine lv_iload hx hb dX4_move_13 (lv_at hl 4 rfl) ?_
      refine lv_iconst (v := 3) hx hb dX4_move_15 (by decide) ?_
      refine lv_icmp_ge hx hb dX4_move_16 (tgt := 50) (by decide) (fun c_1 => ?_) (fun c_1 => ?_)
      · have h := h.1 c_1
        refine hx_aload_n C0 dX4_move_50 rfl (lv_at hl 0 rfl) ?_
        refine lv_iload_n hx hb dX4_move_51 rfl (lv_at hl 1 rfl) ?_
        refine hx_Si C0 hU hH (As := [.int x1]) (wk_X4_isEnd l h) (va_cwS 1 hts (lw_S q1175 q1176 q71 q1177) rfl rfl rfl (by decide +kernel) ⟨Nat.le_of_ble_eq_true rfl, Nat.le_of_ble_eq_true rfl⟩) rfl hl.1 rfl (Nat.le_of_ble_eq_true rfl) dX4_move_52 ⟨Nat.le_of_ble_eq_true rfl, Nat.le_of_ble_eq_true rfl⟩ (fun i_2 w H locs hH h => ?_)
        refine lv_if_ne hx hb dX4_move_55 (tgt := 62) (by decide) (fun c_3 => ?_) (fun c_3 => ?_)
        · have h := h.2 c_3
          refine lv_iload_n hx hb dX4_move_62 rfl (lv_at hl 3 rfl) ?_
          refine lv_if_ne hx hb dX4_move_63 (tgt := 70) (by decide) (fun c_4 => ?_) (fun c_4 => ?_)
          · have h := h.2 c_4
            refine lv_iconst (v := 0) hx hb dX4_move_70 (by decide) ?_
            refine W.widen (k := 0) (n := 0) (Nat.le_of_ble_eq_true rfl) (Nat.le_of_ble_eq_true rfl) ?_
            exact b71 _ _ _ _ _ _ h _ _ _ hH (lv_sub hl [0, 1, 2] rfl)
          · have h := h.1 c_4
            refine lv_iconst (v := 2) hx hb dX4_move_66 (by decide) ?_
            refine lv_goto hx hb dX4_move_67 (tgt := 71) (by decide) ?_
            refine W.widen (k := 0) (n := 0) (Nat.le_of_ble_eq_true rfl) (Nat.le_of_ble_eq_true rfl) ?_
            exact b71 _ _ _ _ _ _ h _ _ _ hH (lv_sub hl [0, 1, 2] rfl)
        · have h := h.1 c_3
          refine lv_iconst (v := 1) hx hb dX4_move_58 (by decide) ?_
          refine lv_goto hx hb dX4_move_59 (tgt := 71) (by decide) ?_
          refine W.widen (k := 0) (n := 0) (Nat.le_of_ble_eq_true rfl) (Nat.le_of_ble_eq_true rfl) ?_
          exact b71 _ _ _ _ _ _ h _ _ _ hH (lv_sub hl [0, 1, 2] rfl)
      · have h := h.2 c_1
        refine lv_iload_n hx hb dX4_move_19 rfl (lv_at hl 3 rfl) ?_
        refine lv_iload hx hb dX4_move_20 (lv_at hl 4 rfl) ?_
        refine lv_iload_n hx hb dX4_move_22 rfl (lv_at hl 1 rfl) ?_
        refine lv_icmp_eq hx hb dX4_move_23 (tgt := 37) (by decide) (fun c_5 => ?_) (fun c_5 => ?_)
        · have h := h.1 c_5
          refine W.widen (k := 0) (n := 0) (Nat.le_of_ble_eq_true rfl) (Nat.le_of_ble_eq_true rfl) ?_
          exact b37 _ _ _ _ _ _ h _ _ _ hH (lv_sub hl [0, 1, 2, 4] rfl)
        · have h := h.2 c_5
          refine hx_aload_n C0 dX4_move_26 rfl (lv_at hl 0 rfl) ?_
          refine hx_gR C0 hU hH (ci := 3) rfl in_X4 4 (by decide) q1075 (fun _ h9 => h9) h dX4_move_27 (fun r_6 h => ?_)
          refine lv_iload hx hb dX4_move_30 (lv_at hl 4 rfl) ?_
          obtain ⟨b_7, rfl, h9⟩ := h
          have h := h9
          clear h9
          refine hx_aI C0 hU hH h dX4_move_32 (fun i_8 h => ?_)
          refine lv_iload_n hx hb dX4_move_33 rfl (lv_at hl 2 rfl) ?_
          refine lv_icmp_eq hx hb dX4_move_34 (tgt := 41) (by decide) (fun c_9 => ?_) (fun c_9 => ?_)
          · have h := h.1 c_9
            refine lv_iconst (v := 0) hx hb dX4_move_41 (by decide) ?_
            refine W.widen (k := 0) (n := 0) (Nat.le_of_ble_eq_true rfl) (Nat.le_of_ble_eq_true rfl) ?_
            exact b42 _ _ _ _ _ _ _ h _ _ _ hH (lv_sub hl [0, 1, 2, 4] rfl)
          · have h := h.2 c_9
            refine W.widen (k := 0) (n := 0) (Nat.le_of_ble_eq_true rfl) (Nat.le_of_ble_eq_true rfl) ?_
            exact b37 _ _ _ _ _ _ h _ _ _ hH (lv_sub hl [0, 1, 2, 4] rfl)
  refine lv_iload_n hx hb dX4_move_0 rfl (lv_at hl 2 rfl) ?_
  refine lv_i2l hx hb dX4_move_1 rfl ?_
  refine lv_lconst (v := 1) hx hb dX4_move_2 (by decide) ?_
  refine lv_ldc2 (v := 99) hx hb C0.2.2.2.1 (hts _ q1174) dX4_move_3 ?_
  refine hx_Si C0 hU hH (As := [.long (x2.toInt64), .long (1 : Int64), .long (99 : Int64)]) (wk_X4_isBetween l h) (va_cwS 3 hts (lw_S q1162 q1163 q71 q1164) rfl rfl rfl (by decide +kernel) ⟨Nat.le_of_ble_eq_true rfl, Nat.le_of_ble_eq_true rfl⟩) rfl hl.1 rfl (Nat.le_of_ble_eq_true rfl) dX4_move_6 ⟨Nat.le_of_ble_eq_true rfl, Nat.le_of_ble_eq_true rfl⟩ (fun i_1 w H locs hH h => ?_)
  refine lv_istore_n hx hb dX4_move_9 rfl hl (by decide) (lv' := [(3, .int i_1), (0, va_rf (some a0)), (1, .int x1), (2, .int x2)]) rfl (fun ls hl => ?_)
  refine lv_iconst (v := 0) hx hb dX4_move_10 (by decide) ?_
  refine lv_istore hx hb dX4_move_11 hl (by decide) (lv' := [(4, .int (0 : Int32)), (3, .int i_1), (0, va_rf (some a0)), (1, .int x1), (2, .int x2)]) rfl (fun ls hl => ?_)
  obtain ⟨n9, h⟩ := h
  refine W.widen (k := 0) (n := 0) (Nat.le_of_ble_eq_true rfl) (Nat.le_of_ble_eq_true rfl) ?_
  exact L13 n9 _ _ _ _ _ _ h _ _ _ hH (lv_sub hl [2, 3, 4, 1, 0] rfl)
def wp_X4_load_b13 (K : Hp → Int32 → Prop)  (w : Hp) (a0 : Nat) (x1 : Int32) (x2 : Int32) (t0 : Int32) (at1 : Nat) : Prop :=
  isO w at1 3 <| wp_X4_isWrong w at1 t0 fun w i_1 => br (i_1 = 0) (gR w a0 3 8 fun r_3 => dR r_3 fun b_4 => aZ w b_4 x1 fun i_5 => gR w a0 3 8 fun r_6 => dR r_6 fun b_7 => sZ w b_7 x1 x2 fun w => gd (i_5 = 0 ∨ i_5 = 1) <| K w i_5) (K w (0 : Int32))
def wp_X4_load (w : Hp) (a0 : Nat) (x1 : Int32) (x2 : Int32) (K : Hp → Int32 → Prop) : Prop :=
  wp_X4_isEnd w x1 fun w i_1 => br (i_1 = 0) (wp_X4_load_b13 K w a0 x1 x2 (1 : Int32) a0) (wp_X4_load_b13 K w a0 x1 x2 (0 : Int32) a0)
abbrev rm_X4_load : Room := { frames := 2, cells := 0, slots := 0, locals := 45 }
abbrev ws9_X4_load : List Cond := ws_ yX4_load cX4_load 4 (Option.some Jvm.ClassFile.FieldType.boolean)
abbrev Q9_X4_load (below : List Frame) (args : Array Value) (s : State) (G : hG) (K : Hp → Int32 → Prop) : State → Prop := MQ below (hx_Qi G K) args s 0 0 (hx_A G)
set_option maxHeartbeats 4000000 in
set_option maxRecDepth 100000 in
theorem wk_X4_load (l : Launch) {G : hG} {w : Hp} {a0 : Nat} {x1 : Int32} {x2 : Int32} {K : Hp → Int32 → Prop} (h : wp_X4_load w a0 x1 x2 K) : hx_Mi l yX4_load (ws9_X4_load) rm_X4_load G w [.ref a0, .int x1, .int x2] K 0 0 := by
  refine Met.ofW (cc := cX4_load) (maxL := 4) (ret := (Option.some Jvm.ClassFile.FieldType.boolean)) (by decide +kernel) rfl ?_
  intro p e s m args below meth c s₁ B hml hv
  refine hx_in (own := RX4) (av := [.ref a0, .int x1, .int x2]) (vl := [(0, va_rf (some a0)), (1, .int x1), (2, .int x2)]) rfl rfl (Nat.le_of_ble_eq_true rfl) rfl B hml hv ?_
  intro C0 hU hH hr hlocks hin ls hl
  have hx := C0.1
  have hb := C0.2.1
  have hts := C0.2.2.2.2
  have b13 : ∀ (w : Hp) (a0 : Nat) (x1 : Int32) (x2 : Int32) (t0 : Int32) (at1 : Nat), wp_X4_load_b13 K  w a0 x1 x2 t0 at1 → ∀ (H : Heap) (locs : List Loc) (ls : Array Slot), hx_H G w s H locs → lv_has ls 4 [(0, va_rf (some a0)), (1, .int x1), (2, .int x2)] → W p l e (headSpec (ws9_X4_load) rm_X4_load).room s m args below meth c H locs (0) (0) (Q9_X4_load below args s G K) (F0 m 13 ls [.int t0, va_rf (some at1)]) := by
    intro w a0 x1 x2 t0 at1 h H locs ls hH hl
    obtain ⟨ho, h⟩ := h
    refine hx_Vi C0 hU hH (As := [.int t0]) (wk_X4_isWrong l h) (cwV 1 hts (lw_V q1166 q1168 qs34 q71 q1169) rfl rfl rfl (by decide +kernel) ⟨Nat.le_of_ble_eq_true rfl, Nat.le_of_ble_eq_true rfl⟩) (hx_recv hU hH (ci := 3) rfl ho) rfl hl.1 rfl (Nat.le_of_ble_eq_true rfl) dX4_load_13 ⟨Nat.le_of_ble_eq_true rfl, Nat.le_of_ble_eq_true rfl⟩ (fun i_1 w H locs hH h => ?_)
    refine lv_if_eq hx hb dX4_load_16 (tgt := 21) (by decide) (fun c_2 => ?_) (fun c_2 => ?_)
    · have h := h.1 c_2
      refine hx_aload_n C0 dX4_load_21 rfl (lv_at hl 0 rfl) ?_
      refine hx_gR C0 hU hH (ci := 3) rfl in_X4 8 (by decide) q1079 (fun _ h9 => h9) h dX4_load_22 (fun r_3 h => ?_)
      refine lv_iload_n hx hb dX4_load_25 rfl (lv_at hl 1 rfl) ?_
      obtain ⟨b_4, rfl, h9⟩ := h
      have h := h9
      clear h9
      refine hx_aZ C0 hU hH h dX4_load_26 (fun i_5 h => ?_)
      refine lv_istore_n hx hb dX4_load_27 rfl hl (by decide) (lv' := [(3, .int i_5), (0, va_rf (some a0)), (1, .int x1), (2, .int x2)]) rfl (fun ls hl => ?_)
      refine hx_aload_n C0 dX4_load_28 rfl (lv_at hl 1 rfl) ?_
      refine hx_gR C0 hU hH (ci := 3) rfl in_X4 8 (by decide) q1079 (fun _ h9 => h9) h dX4_load_29 (fun r_6 h => ?_)
      refine lv_iload_n hx hb dX4_load_32 rfl (lv_at hl 2 rfl) ?_
      refine lv_iload_n hx hb dX4_load_33 rfl (lv_at hl 3 rfl) ?_
      obtain ⟨b_7, rfl, h9⟩ := h
      have h := h9
      clear h9
      refine hx_sZ C0 hU hH h dX4_load_34 (fun w H locs hH h => ?_)
      refine lv_iload_n hx hb dX4_load_35 rfl (lv_at hl 0 rfl) ?_
      obtain ⟨hz, h⟩ := h
      exact hx_retz C0 hH hr hlocks hz h (Nat.le_of_ble_eq_true rfl) (Nat.le_of_ble_eq_true rfl) dX4_load_36
    · have h := h.2 c_2
      refine lv_iconst (v := 0) hx hb dX4_load_19 (by decide) ?_
      exact hx_retz C0 hH hr hlocks (Or.inl rfl) h (Nat.le_of_ble_eq_true rfl) (Nat.le_of_ble_eq_true rfl) dX4_load_20
  refine hx_aload_n C0 dX4_load_0 rfl (lv_at hl 0 rfl) ?_
  refine lv_iload_n hx hb dX4_load_1 rfl (lv_at hl 1 rfl) ?_
  refine hx_Si C0 hU hH (As := [.int x1]) (wk_X4_isEnd l h) (va_cwS 1 hts (lw_S q1175 q1176 q71 q1177) rfl rfl rfl (by decide +kernel) ⟨Nat.le_of_ble_eq_true rfl, Nat.le_of_ble_eq_true rfl⟩) rfl hl.1 rfl (Nat.le_of_ble_eq_true rfl) dX4_load_2 ⟨Nat.le_of_ble_eq_true rfl, Nat.le_of_ble_eq_true rfl⟩ (fun i_1 w H locs hH h => ?_)
  refine lv_if_eq hx hb dX4_load_5 (tgt := 12) (by decide) (fun c_2 => ?_) (fun c_2 => ?_)
  · have h := h.1 c_2
    refine lv_iconst (v := 1) hx hb dX4_load_12 (by decide) ?_
    refine W.widen (k := 0) (n := 0) (Nat.le_of_ble_eq_true rfl) (Nat.le_of_ble_eq_true rfl) ?_
    exact b13 _ _ _ _ _ _ h _ _ _ hH (lv_sub hl [0, 1, 2] rfl)
  · have h := h.2 c_2
    refine lv_iconst (v := 0) hx hb dX4_load_8 (by decide) ?_
    refine lv_goto hx hb dX4_load_9 (tgt := 13) (by decide) ?_
    refine W.widen (k := 0) (n := 0) (Nat.le_of_ble_eq_true rfl) (Nat.le_of_ble_eq_true rfl) ?_
    exact b13 _ _ _ _ _ _ h _ _ _ hH (lv_sub hl [0, 1, 2] rfl)
def wp_X4_counting (w : Hp) (x0 : Int32) (x1 : Int32) (K : Hp → Int32 → Prop) : Prop :=
  K w ((x0 >>> (((8 : Int32) - x1) &&& 31)) <<< (((8 : Int32) - x1) &&& 31))
abbrev rm_X4_counting : Room := { frames := 0, cells := 0, slots := 0, locals := 0 }
abbrev ws9_X4_counting : List Cond := ws_ yX4_counting cX4_counting 2 (Option.some Jvm.ClassFile.FieldType.int)
abbrev Q9_X4_counting (below : List Frame) (args : Array Value) (s : State) (G : hG) (K : Hp → Int32 → Prop) : State → Prop := MQ below (hx_Qi G K) args s 0 0 (hx_A G)
set_option maxHeartbeats 4000000 in
set_option maxRecDepth 100000 in
theorem wk_X4_counting (l : Launch) {G : hG} {w : Hp} {x0 : Int32} {x1 : Int32} {K : Hp → Int32 → Prop} (h : wp_X4_counting w x0 x1 K) : hx_Mi l yX4_counting (ws9_X4_counting) rm_X4_counting G w [.int x0, .int x1] K 0 0 := by
  refine Met.ofW (cc := cX4_counting) (maxL := 2) (ret := (Option.some Jvm.ClassFile.FieldType.int)) (by decide +kernel) rfl ?_
  intro p e s m args below meth c s₁ B hml hv
  refine hx_in (own := RX4) (av := [.int x0, .int x1]) (vl := [(0, .int x0), (1, .int x1)]) rfl rfl (Nat.le_of_ble_eq_true rfl) rfl B hml hv ?_
  intro C0 hU hH hr hlocks hin ls hl
  have hx := C0.1
  have hb := C0.2.1
  have hts := C0.2.2.2.2
  refine lv_iload_n hx hb dX4_counting_0 rfl (lv_at hl 0 rfl) ?_
  refine lv_bipush (v := 8) hx hb dX4_counting_1 (by decide) ?_
  refine lv_iload_n hx hb dX4_counting_3 rfl (lv_at hl 1 rfl) ?_
  refine lv_isub hx hb dX4_counting_4 ?_
  refine lv_ishr hx hb dX4_counting_5 ?_
  refine lv_bipush (v := 8) hx hb dX4_counting_6 (by decide) ?_
  refine lv_iload_n hx hb dX4_counting_8 rfl (lv_at hl 1 rfl) ?_
  refine lv_isub hx hb dX4_counting_9 ?_
  refine lv_ishl hx hb dX4_counting_10 ?_
  exact hx_reti C0 hH hr hlocks h (Nat.le_of_ble_eq_true rfl) (Nat.le_of_ble_eq_true rfl) dX4_counting_11
def wp_X4_pair_b14 (K : Hp → Int32 → Prop)  (w : Hp)  : Prop :=
  K w (1 : Int32)
def wp_X4_pair (w : Hp) (x0 : Int32) (x1 : Int32) (K : Hp → Int32 → Prop) : Prop :=
  wp_X4_isEnd w x0 fun w i_1 => br (i_1 = 0) (wp_X4_pair_b14 K w) (wp_X4_isEnd w x1 fun w i_3 => br (i_3 = 0) (wp_X4_pair_b14 K w) (br (x0 = x1) (K w (2 : Int32)) (K w (0 : Int32))))
abbrev rm_X4_pair : Room := { frames := 2, cells := 0, slots := 0, locals := 45 }
abbrev ws9_X4_pair : List Cond := ws_ yX4_pair cX4_pair 2 (Option.some Jvm.ClassFile.FieldType.int)
abbrev Q9_X4_pair (below : List Frame) (args : Array Value) (s : State) (G : hG) (K : Hp → Int32 → Prop) : State → Prop := MQ below (hx_Qi G K) args s 0 0 (hx_A G)
set_option maxHeartbeats 4000000 in
set_option maxRecDepth 100000 in
theorem wk_X4_pair (l : Launch) {G : hG} {w : Hp} {x0 : Int32} {x1 : Int32} {K : Hp → Int32 → Prop} (h : wp_X4_pair w x0 x1 K) : hx_Mi l yX4_pair (ws9_X4_pair) rm_X4_pair G w [.int x0, .int x1] K 0 0 := by
  refine Met.ofW (cc := cX4_pair) (maxL := 2) (ret := (Option.some Jvm.ClassFile.FieldType.int)) (by decide +kernel) rfl ?_
  intro p e s m args below meth c s₁ B hml hv
  refine hx_in (own := RX4) (av := [.int x0, .int x1]) (vl := [(0, .int x0), (1, .int x1)]) rfl rfl (Nat.le_of_ble_eq_true rfl) rfl B hml hv ?_
  intro C0 hU hH hr hlocks hin ls hl
  have hx := C0.1
  have hb := C0.2.1
  have hts := C0.2.2.2.2
  have b14 : ∀ (w : Hp) , wp_X4_pair_b14 K  w  → ∀ (H : Heap) (locs : List Loc) (ls : Array Slot), hx_H G w s H locs → lv_has ls 2 [] → W p l e (headSpec (ws9_X4_pair) rm_X4_pair).room s m args below meth c H locs (0) (0) (Q9_X4_pair below args s G K) (F0 m 14 ls []) := by
    intro w  h H locs ls hH hl
    refine lv_iconst (v := 1) hx hb dX4_pair_14 (by decide) ?_
    refine lv_goto hx hb dX4_pair_15 (tgt := 28) (by decide) ?_
    exact hx_reti C0 hH hr hlocks h (Nat.le_of_ble_eq_true rfl) (Nat.le_of_ble_eq_true rfl) dX4_pair_28
  refine lv_iload_n hx hb dX4_pair_0 rfl (lv_at hl 0 rfl) ?_
  refine hx_Si C0 hU hH (As := [.int x0]) (wk_X4_isEnd l h) (va_cwS 1 hts (lw_S q1175 q1176 q71 q1177) rfl rfl rfl (by decide +kernel) ⟨Nat.le_of_ble_eq_true rfl, Nat.le_of_ble_eq_true rfl⟩) rfl hl.1 rfl (Nat.le_of_ble_eq_true rfl) dX4_pair_1 ⟨Nat.le_of_ble_eq_true rfl, Nat.le_of_ble_eq_true rfl⟩ (fun i_1 w H locs hH h => ?_)
  refine lv_if_eq hx hb dX4_pair_4 (tgt := 14) (by decide) (fun c_2 => ?_) (fun c_2 => ?_)
  · have h := h.1 c_2
    refine W.widen (k := 0) (n := 0) (Nat.le_of_ble_eq_true rfl) (Nat.le_of_ble_eq_true rfl) ?_
    exact b14 _  h _ _ _ hH (lv_sub hl [] rfl)
  · have h := h.2 c_2
    refine lv_iload_n hx hb dX4_pair_7 rfl (lv_at hl 1 rfl) ?_
    refine hx_Si C0 hU hH (As := [.int x1]) (wk_X4_isEnd l h) (va_cwS 1 hts (lw_S q1175 q1176 q71 q1177) rfl rfl rfl (by decide +kernel) ⟨Nat.le_of_ble_eq_true rfl, Nat.le_of_ble_eq_true rfl⟩) rfl hl.1 rfl (Nat.le_of_ble_eq_true rfl) dX4_pair_8 ⟨Nat.le_of_ble_eq_true rfl, Nat.le_of_ble_eq_true rfl⟩ (fun i_3 w H locs hH h => ?_)
    refine lv_if_ne hx hb dX4_pair_11 (tgt := 18) (by decide) (fun c_4 => ?_) (fun c_4 => ?_)
    · have h := h.2 c_4
      refine lv_iload_n hx hb dX4_pair_18 rfl (lv_at hl 0 rfl) ?_
      refine lv_iload_n hx hb dX4_pair_19 rfl (lv_at hl 1 rfl) ?_
      refine lv_icmp_ne hx hb dX4_pair_20 (tgt := 27) (by decide) (fun c_5 => ?_) (fun c_5 => ?_)
      · have h := h.2 c_5
        refine lv_iconst (v := 0) hx hb dX4_pair_27 (by decide) ?_
        exact hx_reti C0 hH hr hlocks h (Nat.le_of_ble_eq_true rfl) (Nat.le_of_ble_eq_true rfl) dX4_pair_28
      · have h := h.1 c_5
        refine lv_iconst (v := 2) hx hb dX4_pair_23 (by decide) ?_
        refine lv_goto hx hb dX4_pair_24 (tgt := 28) (by decide) ?_
        exact hx_reti C0 hH hr hlocks h (Nat.le_of_ble_eq_true rfl) (Nat.le_of_ble_eq_true rfl) dX4_pair_28
    · have h := h.1 c_4
      refine W.widen (k := 0) (n := 0) (Nat.le_of_ble_eq_true rfl) (Nat.le_of_ble_eq_true rfl) ?_
      exact b14 _  h _ _ _ hH (lv_sub hl [] rfl)
def wp_X4_place_b47 (K : Hp → Int32 → Prop) (bk3 : Hp → Nat → Int32 → Int32 → Int32 → Int32 → Prop) (w : Hp) (a0 : Nat) (x1 : Int32) (x2 : Int32) (x3 : Int32) (x4 : Int32) : Prop :=
  nm (x4 + 1) fun i_1 => bk3 w a0 x1 x2 x3 i_1
def wp_X4_place_s3 (K : Hp → Int32 → Prop)  (bk3 : Hp → Nat → Int32 → Int32 → Int32 → Int32 → Prop) (w : Hp) (a0 : Nat) (x1 : Int32) (x2 : Int32) (x3 : Int32) (x4 : Int32) : Prop :=
  gR w a0 3 5 fun r_1 => dR r_1 fun b_2 => aI w b_2 x1 fun i_3 => br (i_3 ≤ x4) (K w (-1 : Int32)) (gR w a0 3 9 fun r_5 => dR r_5 fun b_6 => aR w b_6 x1 fun r_7 => dR r_7 fun b_8 => aR w b_8 x4 fun r_9 => dR r_9 fun b_10 => aI w b_10 (0 : Int32) fun i_11 => br (i_11 = x2) (gR w a0 3 9 fun r_13 => dR r_13 fun b_14 => aR w b_14 x1 fun r_15 => dR r_15 fun b_16 => aR w b_16 x4 fun r_17 => dR r_17 fun b_18 => aI w b_18 (1 : Int32) fun i_19 => br (i_19 = x3) (K w x4) (wp_X4_place_b47 K bk3 w a0 x1 x2 x3 x4)) (wp_X4_place_b47 K bk3 w a0 x1 x2 x3 x4))
def wp_X4_place_l3 (K : Hp → Int32 → Prop)  : ((Hp × Nat × Int32 × Int32 × Int32 × Int32) → Prop) → (Hp × Nat × Int32 × Int32 × Int32 × Int32) → Prop := fun bk q => wp_X4_place_s3 K  (fun w a0 x1 x2 x3 x4 => bk (w, a0, x1, x2, x3, x4)) q.1 q.2.1 q.2.2.1 q.2.2.2.1 q.2.2.2.2.1 q.2.2.2.2.2
def wp_X4_place_b3 (K : Hp → Int32 → Prop)  (w : Hp) (a0 : Nat) (x1 : Int32) (x2 : Int32) (x3 : Int32) (x4 : Int32) : Prop := lp (wp_X4_place_l3 K ) (w, a0, x1, x2, x3, x4)
def wp_X4_place (w : Hp) (a0 : Nat) (x1 : Int32) (x2 : Int32) (x3 : Int32) (K : Hp → Int32 → Prop) : Prop :=
  wp_X4_place_b3 K w a0 x1 x2 x3 (0 : Int32)
abbrev rm_X4_place : Room := { frames := 0, cells := 0, slots := 0, locals := 0 }
abbrev ws9_X4_place : List Cond := ws_ yX4_place cX4_place 5 (Option.some Jvm.ClassFile.FieldType.int)
abbrev Q9_X4_place (below : List Frame) (args : Array Value) (s : State) (G : hG) (K : Hp → Int32 → Prop) : State → Prop := MQ below (hx_Qi G K) args s 0 0 (hx_A G)
set_option maxHeartbeats 4000000 in
set_option maxRecDepth 100000 in
theorem wk_X4_place (l : Launch) {G : hG} {w : Hp} {a0 : Nat} {x1 : Int32} {x2 : Int32} {x3 : Int32} {K : Hp → Int32 → Prop} (h : wp_X4_place w a0 x1 x2 x3 K) : hx_Mi l yX4_place (ws9_X4_place) rm_X4_place G w [.ref a0, .int x1, .int x2, .int x3] K 0 0 := by
  refine Met.ofW (cc := cX4_place) (maxL := 5) (ret := (Option.some Jvm.ClassFile.FieldType.int)) (by decide +kernel) rfl ?_
  intro p e s m args below meth c s₁ B hml hv
  refine hx_in (own := RX4) (av := [.ref a0, .int x1, .int x2, .int x3]) (vl := [(0, va_rf (some a0)), (1, .int x1), (2, .int x2), (3, .int x3)]) rfl rfl (Nat.le_of_ble_eq_true rfl) rfl B hml hv ?_
  intro C0 hU hH hr hlocks hin ls hl
  have hx := C0.1
  have hb := C0.2.1
  have hts := C0.2.2.2.2
  have L3 : ∀ (n3 : Nat) (w : Hp) (a0 : Nat) (x1 : Int32) (x2 : Int32) (x3 : Int32) (x4 : Int32), lpN (wp_X4_place_l3 K ) n3 (w, a0, x1, x2, x3, x4) → ∀ (H : Heap) (locs : List Loc) (ls : Array Slot), hx_H G w s H locs → lv_has ls 5 [(0, va_rf (some a0)), (1, .int x1), (2, .int x2), (3, .int x3), (4, .int x4)] → W p l e (headSpec (ws9_X4_place) rm_X4_place).room s m args below meth c H locs (0) (0) (Q9_X4_place below args s G K) (F0 m 3 ls []) := by
    intro n3
    induction n3 with
    | zero => intro w a0 x1 x2 x3 x4 h; exact h.elim
    | succ n3 ih3 =>
      intro w a0 x1 x2 x3 x4 h H locs ls hH hl
      have h : wp_X4_place_s3 K  (fun w a0 x1 x2 x3 x4 => lpN (wp_X4_place_l3 K ) n3 (w, a0, x1, x2, x3, x4)) w a0 x1 x2 x3 x4 := h
      have b47 : ∀ (w : Hp) (a0 : Nat) (x1 : Int32) (x2 : Int32) (x3 : Int32) (x4 : Int32), wp_X4_place_b47 K (fun w a0 x1 x2 x3 x4 => lpN (wp_X4_place_l3 K ) n3 (w, a0, x1, x2, x3, x4)) w a0 x1 x2 x3 x4 → ∀ (H : Heap) (locs : List Loc) (ls : Array Slot), hx_H G w s H locs → lv_has ls 5 [(0, va_rf (some a0)), (1, .int x1), (2, .int x2), (3, .int x3), (4, .int x4)] → W p l e (headSpec (ws9_X4_place) rm_X4_place).room s m args below meth c H locs (0) (0) (Q9_X4_place below args s G K) (F0 m 47 ls []) := by
        intro w a0 x1 x2 x3 x4 h H locs ls hH hl
        obtain ⟨i_1, ei_1⟩ : ∃ z, z = x4 + 1 := ⟨_, rfl⟩
        have h := h i_1 ei_1
        refine lv_iinc (k := 4) hx hb dX4_place_47 hl rfl (v := i_1) (by rw [ei_1]; rfl) (by decide) (lv' := [(4, .int i_1), (0, va_rf (some a0)), (1, .int x1), (2, .int x2), (3, .int x3)]) rfl (fun ls hl => ?_)
        refine lv_goto hx hb dX4_place_50 (tgt := 3) (by decide) ?_
        refine W.widen (k := 0) (n := 0) (Nat.le_of_ble_eq_true rfl) (Nat.le_of_ble_eq_true rfl) ?_
        exact ih3 _ _ _ _ _ _ h _ _ _ hH (lv_sub hl [1, 2, 3, 4, 0] rfl)
      refine lv_iload hx hb dX4_place_3 (lv_at hl 4 rfl) ?_
      refine hx_aload_n C0 dX4_place_5 rfl (lv_at hl 0 rfl) ?_
      refine hx_gR C0 hU hH (ci := 3) rfl in_X4 5 (by decide) q1076 (fun _ h9 => h9) h dX4_place_6 (fun r_1 h => ?_)
      refine lv_iload_n hx hb dX4_place_9 rfl (lv_at hl 1 rfl) ?_
      obtain ⟨b_2, rfl, h9⟩ := h
      have h := h9
      clear h9
      refine hx_aI C0 hU hH h dX4_place_10 (fun i_3 h => ?_)
      refine lv_icmp_ge hx hb dX4_place_11 (tgt := 53) (by decide) (fun c_4 => ?_) (fun c_4 => ?_)
      · have h := h.1 c_4
        refine lv_iconst (v := -1) hx hb dX4_place_53 (by decide) ?_
        exact hx_reti C0 hH hr hlocks h (Nat.le_of_ble_eq_true rfl) (Nat.le_of_ble_eq_true rfl) dX4_place_54
      · have h := h.2 c_4
        refine hx_aload_n C0 dX4_place_14 rfl (lv_at hl 0 rfl) ?_
        refine hx_gR C0 hU hH (ci := 3) rfl in_X4 9 (by decide) q1080 (fun _ h9 => h9) h dX4_place_15 (fun r_5 h => ?_)
        refine lv_iload_n hx hb dX4_place_18 rfl (lv_at hl 1 rfl) ?_
        obtain ⟨b_6, rfl, h9⟩ := h
        have h := h9
        clear h9
        refine hx_aR C0 hU hH h dX4_place_19 (fun r_7 h => ?_)
        refine lv_iload hx hb dX4_place_20 (lv_at hl 4 rfl) ?_
        obtain ⟨b_8, rfl, h9⟩ := h
        have h := h9
        clear h9
        refine hx_aR C0 hU hH h dX4_place_22 (fun r_9 h => ?_)
        refine lv_iconst (v := 0) hx hb dX4_place_23 (by decide) ?_
        obtain ⟨b_10, rfl, h9⟩ := h
        have h := h9
        clear h9
        refine hx_aI C0 hU hH h dX4_place_24 (fun i_11 h => ?_)
        refine lv_iload_n hx hb dX4_place_25 rfl (lv_at hl 2 rfl) ?_
        refine lv_icmp_ne hx hb dX4_place_26 (tgt := 47) (by decide) (fun c_12 => ?_) (fun c_12 => ?_)
        · have h := h.2 c_12
          refine W.widen (k := 0) (n := 0) (Nat.le_of_ble_eq_true rfl) (Nat.le_of_ble_eq_true rfl) ?_
          exact b47 _ _ _ _ _ _ h _ _ _ hH (lv_sub hl [0, 1, 2, 3, 4] rfl)
        · have h := h.1 c_12
          refine hx_aload_n C0 dX4_place_29 rfl (lv_at hl 0 rfl) ?_
          refine hx_gR C0 hU hH (ci := 3) rfl in_X4 9 (by decide) q1080 (fun _ h9 => h9) h dX4_place_30 (fun r_13 h => ?_)
          refine lv_iload_n hx hb dX4_place_33 rfl (lv_at hl 1 rfl) ?_
          obtain ⟨b_14, rfl, h9⟩ := h
          have h := h9
          clear h9
          refine hx_aR C0 hU hH h dX4_place_34 (fun r_15 h => ?_)
          refine lv_iload hx hb dX4_place_35 (lv_at hl 4 rfl) ?_
          obtain ⟨b_16, rfl, h9⟩ := h
          have h := h9
          clear h9
          refine hx_aR C0 hU hH h dX4_place_37 (fun r_17 h => ?_)
          refine lv_iconst (v := 1) hx hb dX4_place_38 (by decide) ?_
          obtain ⟨b_18, rfl, h9⟩ := h
          have h := h9
          clear h9
          refine hx_aI C0 hU hH h dX4_place_39 (fun i_19 h => ?_)
          refine lv_iload_n hx hb dX4_place_40 rfl (lv_at hl 3 rfl) ?_
          refine lv_icmp_ne hx hb dX4_place_41 (tgt := 47) (by decide) (fun c_20 => ?_) (fun c_20 => ?_)
          · have h := h.2 c_20
            refine W.widen (k := 0) (n := 0) (Nat.le_of_ble_eq_true rfl) (Nat.le_of_ble_eq_true rfl) ?_
            exact b47 _ _ _ _ _ _ h _ _ _ hH (lv_sub hl [0, 1, 2, 3, 4] rfl)
          · have h := h.1 c_20
            refine lv_iload hx hb dX4_place_44 (lv_at hl 4 rfl) ?_
            exact hx_reti C0 hH hr hlocks h (Nat.le_of_ble_eq_true rfl) (Nat.le_of_ble_eq_true rfl) dX4_place_46
  refine lv_iconst (v := 0) hx hb dX4_place_0 (by decide) ?_
  refine lv_istore hx hb dX4_place_1 hl (by decide) (lv' := [(4, .int (0 : Int32)), (0, va_rf (some a0)), (1, .int x1), (2, .int x2), (3, .int x3)]) rfl (fun ls hl => ?_)
  obtain ⟨n9, h⟩ := h
  refine W.widen (k := 0) (n := 0) (Nat.le_of_ble_eq_true rfl) (Nat.le_of_ble_eq_true rfl) ?_
  exact L3 n9 _ _ _ _ _ _ h _ _ _ hH (lv_sub hl [1, 2, 3, 4, 0] rfl)
def wp_X4_allow_b147 (K : Hp → Int32 → Prop)  (w : Hp) (a0 : Nat) (x1 : Int32) (x2 : Int32) (x4 : Int32) (x7 : Int32) (x8 : Int32) : Prop :=
  gR w a0 3 9 fun r_1 => dR r_1 fun b_2 => aR w b_2 x1 fun r_3 => nI_ w (3 : Int32) 3 fun w b_4 => sI w b_4 (0 : Int32) x7 fun w => sI w b_4 (1 : Int32) x4 fun w => sI w b_4 (2 : Int32) x2 fun w => dR r_3 fun b_5 => sR w b_5 x8 (some b_4) fun w => gR w a0 3 5 fun r_6 => dR r_6 fun b_7 => aI w b_7 x1 fun i_8 => K w i_8
def wp_X4_allow_b98 (K : Hp → Int32 → Prop)  (w : Hp) (a0 : Nat) (x1 : Int32) (x2 : Int32) (x3 : Int32) (x4 : Int32) (x6 : Int32) : Prop :=
  isO w a0 3 <| wp_X4_isWrong w a0 x6 fun w i_1 => br (i_1 = 0) (wp_X4_counting w x3 x4 fun w i_3 => isO w a0 3 <| wp_X4_place w a0 x1 i_3 x4 fun w i_4 => br (i_4 = (-1 : Int32)) (gR w a0 3 5 fun r_6 => dR r_6 fun b_7 => aI w b_7 x1 fun i_8 => sI w b_7 x1 (i_8 + (1 : Int32)) fun w => wp_X4_allow_b147 K w a0 x1 x2 x4 i_3 i_8) (wp_X4_allow_b147 K w a0 x1 x2 x4 i_3 i_4)) (K w (0 : Int32))
def wp_X4_allow_b60 (K : Hp → Int32 → Prop)  (w : Hp) (a0 : Nat) (x1 : Int32) (x2 : Int32) (x3 : Int32) (x4 : Int32) (t0 : Int32) : Prop :=
  br (t0 = 0) (wp_X4_counting w x3 x4 fun w i_2 => isO w a0 3 <| wp_X4_place w a0 x1 i_2 x4 fun w i_3 => br (i_3 = (-1 : Int32)) (gR w a0 3 5 fun r_5 => dR r_5 fun b_6 => aI w b_6 x1 fun i_7 => br (i_7 = (8 : Int32)) (wp_X4_allow_b98 K w a0 x1 x2 x3 x4 (3 : Int32)) (wp_X4_allow_b98 K w a0 x1 x2 x3 x4 t0)) (wp_X4_allow_b98 K w a0 x1 x2 x3 x4 t0)) (wp_X4_allow_b98 K w a0 x1 x2 x3 x4 t0)
def wp_X4_allow_b55 (K : Hp → Int32 → Prop)  (w : Hp) (a0 : Nat) (x1 : Int32) (x2 : Int32) (x3 : Int32) (x4 : Int32) : Prop :=
  wp_X4_allow_b60 K w a0 x1 x2 x3 x4 (2 : Int32)
def wp_X4_allow_b30 (K : Hp → Int32 → Prop)  (w : Hp) (a0 : Nat) (x1 : Int32) (x2 : Int32) (x3 : Int32) (x4 : Int32) (t0 : Int32) : Prop :=
  wp_X4_pair w x1 x2 fun w i_1 => br (i_1 = (1 : Int32)) (wp_X4_allow_b60 K w a0 x1 x2 x3 x4 (1 : Int32)) (br (x1 = x2) (wp_X4_allow_b55 K w a0 x1 x2 x3 x4) (br (t0 = 0) (wp_X4_allow_b55 K w a0 x1 x2 x3 x4) (wp_X4_allow_b60 K w a0 x1 x2 x3 x4 (0 : Int32))))
def wp_X4_allow_b29 (K : Hp → Int32 → Prop)  (w : Hp) (a0 : Nat) (x1 : Int32) (x2 : Int32) (x3 : Int32) (x4 : Int32) : Prop :=
  wp_X4_allow_b30 K w a0 x1 x2 x3 x4 (0 : Int32)
def wp_X4_allow (w : Hp) (a0 : Nat) (x1 : Int32) (x2 : Int32) (x3 : Int32) (x4 : Int32) (K : Hp → Int32 → Prop) : Prop :=
  wp_X4_isBetween w (x3.toInt64) (0 : Int64) (255 : Int64) fun w i_1 => br (i_1 = 0) (wp_X4_allow_b29 K w a0 x1 x2 x3 x4) (wp_X4_isBetween w (x4.toInt64) (0 : Int64) (8 : Int64) fun w i_3 => br (i_3 = 0) (wp_X4_allow_b29 K w a0 x1 x2 x3 x4) (wp_X4_allow_b30 K w a0 x1 x2 x3 x4 (1 : Int32)))
abbrev rm_X4_allow : Room := { frames := 3, cells := 1, slots := 3, locals := 66 }
abbrev ws9_X4_allow : List Cond := ws_ yX4_allow cX4_allow 9 (Option.some Jvm.ClassFile.FieldType.int)
abbrev Q9_X4_allow (below : List Frame) (args : Array Value) (s : State) (G : hG) (K : Hp → Int32 → Prop) : State → Prop := MQ below (hx_Qi G K) args s 1 3 (hx_A G)
set_option maxHeartbeats 4000000 in
set_option maxRecDepth 100000 in
theorem wk_X4_allow (l : Launch) {G : hG} {w : Hp} {a0 : Nat} {x1 : Int32} {x2 : Int32} {x3 : Int32} {x4 : Int32} {K : Hp → Int32 → Prop} (h : wp_X4_allow w a0 x1 x2 x3 x4 K) : hx_Mi l yX4_allow (ws9_X4_allow) rm_X4_allow G w [.ref a0, .int x1, .int x2, .int x3, .int x4] K 1 3 := by
  refine Met.ofW (cc := cX4_allow) (maxL := 9) (ret := (Option.some Jvm.ClassFile.FieldType.int)) (by decide +kernel) rfl ?_
  intro p e s m args below meth c s₁ B hml hv
  refine hx_in (own := RX4) (av := [.ref a0, .int x1, .int x2, .int x3, .int x4]) (vl := [(0, va_rf (some a0)), (1, .int x1), (2, .int x2), (3, .int x3), (4, .int x4)]) rfl rfl (Nat.le_of_ble_eq_true rfl) rfl B hml hv ?_
  intro C0 hU hH hr hlocks hin ls hl
  have hx := C0.1
  have hb := C0.2.1
  have hts := C0.2.2.2.2
  have b147 : ∀ (w : Hp) (a0 : Nat) (x1 : Int32) (x2 : Int32) (x4 : Int32) (x7 : Int32) (x8 : Int32), wp_X4_allow_b147 K  w a0 x1 x2 x4 x7 x8 → ∀ (H : Heap) (locs : List Loc) (ls : Array Slot), hx_H G w s H locs → lv_has ls 9 [(0, va_rf (some a0)), (1, .int x1), (2, .int x2), (4, .int x4), (7, .int x7), (8, .int x8)] → W p l e (headSpec (ws9_X4_allow) rm_X4_allow).room s m args below meth c H locs (0) (0) (Q9_X4_allow below args s G K) (F0 m 147 ls []) := by
    intro w a0 x1 x2 x4 x7 x8 h H locs ls hH hl
    refine hx_aload_n C0 dX4_allow_147 rfl (lv_at hl 0 rfl) ?_
    refine hx_gR C0 hU hH (ci := 3) rfl in_X4 9 (by decide) q1080 (fun _ h9 => h9) h dX4_allow_148 (fun r_1 h => ?_)
    refine lv_iload_n hx hb dX4_allow_151 rfl (lv_at hl 1 rfl) ?_
    obtain ⟨b_2, rfl, h9⟩ := h
    have h := h9
    clear h9
    refine hx_aR C0 hU hH h dX4_allow_152 (fun r_3 h => ?_)
    refine lv_iload hx hb dX4_allow_153 (lv_at hl 5 rfl) ?_
    refine lv_iconst (v := 3) hx hb dX4_allow_155 (by decide) ?_
    refine hx_nI C0 hU hH (Nat.le_of_ble_eq_true rfl) (Nat.le_of_ble_eq_true rfl) (Nat.le_of_ble_eq_true rfl) h dX4_allow_156 (fun b_4 w H locs hH h => ?_)
    refine lv_dup hx hb dX4_allow_158 rfl ?_
    refine lv_iconst (v := 0) hx hb dX4_allow_159 (by decide) ?_
    refine lv_iload hx hb dX4_allow_160 (lv_at hl 4 rfl) ?_
    refine hx_sI C0 hU hH h dX4_allow_162 (fun w H locs hH h => ?_)
    refine lv_dup hx hb dX4_allow_163 rfl ?_
    refine lv_iconst (v := 1) hx hb dX4_allow_164 (by decide) ?_
    refine lv_iload hx hb dX4_allow_165 (lv_at hl 3 rfl) ?_
    refine hx_sI C0 hU hH h dX4_allow_167 (fun w H locs hH h => ?_)
    refine lv_dup hx hb dX4_allow_168 rfl ?_
    refine lv_iconst (v := 2) hx hb dX4_allow_169 (by decide) ?_
    refine lv_iload_n hx hb dX4_allow_170 rfl (lv_at hl 2 rfl) ?_
    refine hx_sI C0 hU hH h dX4_allow_171 (fun w H locs hH h => ?_)
    obtain ⟨b_5, rfl, h9⟩ := h
    have h := h9
    clear h9
    refine hx_sR C0 hU hH h dX4_allow_172 (fun w H locs hH h => ?_)
    refine hx_aload_n C0 dX4_allow_173 rfl (lv_at hl 0 rfl) ?_
    refine hx_gR C0 hU hH (ci := 3) rfl in_X4 5 (by decide) q1076 (fun _ h9 => h9) h dX4_allow_174 (fun r_6 h => ?_)
    refine lv_iload_n hx hb dX4_allow_177 rfl (lv_at hl 1 rfl) ?_
    obtain ⟨b_7, rfl, h9⟩ := h
    have h := h9
    clear h9
    refine hx_aI C0 hU hH h dX4_allow_178 (fun i_8 h => ?_)
    exact hx_reti C0 hH hr hlocks h (Nat.le_of_ble_eq_true rfl) (Nat.le_of_ble_eq_true rfl) dX4_allow_179
  have b98 : ∀ (w : Hp) (a0 : Nat) (x1 : Int32) (x2 : Int32) (x3 : Int32) (x4 : Int32) (x6 : Int32), wp_X4_allow_b98 K  w a0 x1 x2 x3 x4 x6 → ∀ (H : Heap) (locs : List Loc) (ls : Array Slot), hx_H G w s H locs → lv_has ls 9 [(0, va_rf (some a0)), (1, .int x1), (2, .int x2), (3, .int x3), (4, .int x4), (6, .int x6)] → W p l e (headSpec (ws9_X4_allow) rm_X4_allow).room s m args below meth c H locs (0) (0) (Q9_X4_allow below args s G K) (F0 m 98 ls []) := by
    intro w a0 x1 x2 x3 x4 x6 h H locs ls hH hl
    refine hx_aload_n C0 dX4_allow_98 rfl (lv_at hl 0 rfl) ?_
    refine lv_iload hx hb dX4_allow_99 (lv_at hl 5 rfl) ?_
    obtain ⟨ho, h⟩ := h
    refine hx_Vi C0 hU hH (As := [.int x6]) (wk_X4_isWrong l h) (cwV 1 hts (lw_V q1166 q1168 qs34 q71 q1169) rfl rfl rfl (by decide +kernel) ⟨Nat.le_of_ble_eq_true rfl, Nat.le_of_ble_eq_true rfl⟩) (hx_recv hU hH (ci := 3) rfl ho) rfl hl.1 rfl (Nat.le_of_ble_eq_true rfl) dX4_allow_101 ⟨Nat.le_of_ble_eq_true rfl, Nat.le_of_ble_eq_true rfl⟩ (fun i_1 w H locs hH h => ?_)
    refine lv_if_eq hx hb dX4_allow_104 (tgt := 109) (by decide) (fun c_2 => ?_) (fun c_2 => ?_)
    · have h := h.1 c_2
      refine lv_iload_n hx hb dX4_allow_109 rfl (lv_at hl 3 rfl) ?_
      refine lv_iload hx hb dX4_allow_110 (lv_at hl 4 rfl) ?_
      refine hx_Si C0 hU hH (As := [.int x3, .int x4]) (wk_X4_counting l h) (va_cwS 2 hts (lw_S q1192 q1193 q71 q1194) rfl rfl rfl (by decide +kernel) ⟨Nat.le_of_ble_eq_true rfl, Nat.le_of_ble_eq_true rfl⟩) rfl hl.1 rfl (Nat.le_of_ble_eq_true rfl) dX4_allow_112 ⟨Nat.le_of_ble_eq_true rfl, Nat.le_of_ble_eq_true rfl⟩ (fun i_3 w H locs hH h => ?_)
      refine lv_istore hx hb dX4_allow_115 hl (by decide) (lv' := [(7, .int i_3), (0, va_rf (some a0)), (1, .int x1), (2, .int x2), (3, .int x3), (4, .int x4), (6, .int x6)]) rfl (fun ls hl => ?_)
      refine hx_aload_n C0 dX4_allow_117 rfl (lv_at hl 1 rfl) ?_
      refine lv_iload_n hx hb dX4_allow_118 rfl (lv_at hl 2 rfl) ?_
      refine lv_iload hx hb dX4_allow_119 (lv_at hl 0 rfl) ?_
      refine lv_iload hx hb dX4_allow_121 (lv_at hl 5 rfl) ?_
      obtain ⟨ho, h⟩ := h
      refine hx_Vi C0 hU hH (As := [.int x1, .int i_3, .int x4]) (wk_X4_place l h) (cwV 3 hts (lw_V q1195 q1197 qs35 q71 q1198) rfl rfl rfl (by decide +kernel) ⟨Nat.le_of_ble_eq_true rfl, Nat.le_of_ble_eq_true rfl⟩) (hx_recv hU hH (ci := 3) rfl ho) rfl hl.1 rfl (Nat.le_of_ble_eq_true rfl) dX4_allow_123 ⟨Nat.le_of_ble_eq_true rfl, Nat.le_of_ble_eq_true rfl⟩ (fun i_4 w H locs hH h => ?_)
      refine lv_istore hx hb dX4_allow_126 hl (by decide) (lv' := [(8, .int i_4), (7, .int i_3), (0, va_rf (some a0)), (1, .int x1), (2, .int x2), (3, .int x3), (4, .int x4), (6, .int x6)]) rfl (fun ls hl => ?_)
      refine lv_iload hx hb dX4_allow_128 (lv_at hl 0 rfl) ?_
      refine lv_iconst (v := -1) hx hb dX4_allow_130 (by decide) ?_
      refine lv_icmp_ne hx hb dX4_allow_131 (tgt := 147) (by decide) (fun c_5 => ?_) (fun c_5 => ?_)
      · have h := h.2 c_5
        refine W.widen (k := 0) (n := 0) (Nat.le_of_ble_eq_true rfl) (Nat.le_of_ble_eq_true rfl) ?_
        exact b147 _ _ _ _ _ _ _ h _ _ _ hH (lv_sub hl [2, 3, 4, 6, 1, 0] rfl)
      · have h := h.1 c_5
        refine hx_aload_n C0 dX4_allow_134 rfl (lv_at hl 2 rfl) ?_
        refine hx_gR C0 hU hH (ci := 3) rfl in_X4 5 (by decide) q1076 (fun _ h9 => h9) h dX4_allow_135 (fun r_6 h => ?_)
        refine lv_iload_n hx hb dX4_allow_138 rfl (lv_at hl 3 rfl) ?_
        refine lv_dup2_11 hx hb dX4_allow_139 rfl (hx_rfc _) ?_
        obtain ⟨b_7, rfl, h9⟩ := h
        have h := h9
        clear h9
        refine hx_aI C0 hU hH h dX4_allow_140 (fun i_8 h => ?_)
        refine lv_dup_x2 hx hb dX4_allow_141 rfl rfl rfl ?_
        refine lv_iconst (v := 1) hx hb dX4_allow_142 (by decide) ?_
        refine lv_iadd hx hb dX4_allow_143 ?_
        refine hx_sI C0 hU hH h dX4_allow_144 (fun w H locs hH h => ?_)
        refine lv_istore hx hb dX4_allow_145 hl (by decide) (lv' := [(8, .int i_8), (7, .int i_3), (0, va_rf (some a0)), (1, .int x1), (2, .int x2), (3, .int x3), (4, .int x4), (6, .int x6)]) rfl (fun ls hl => ?_)
        refine W.widen (k := 0) (n := 0) (Nat.le_of_ble_eq_true rfl) (Nat.le_of_ble_eq_true rfl) ?_
        exact b147 _ _ _ _ _ _ _ h _ _ _ hH (lv_sub hl [2, 3, 4, 6, 1, 0] rfl)
    · have h := h.2 c_2
      refine lv_iconst (v := 0) hx hb dX4_allow_107 (by decide) ?_
      exact hx_reti C0 hH hr hlocks h (Nat.le_of_ble_eq_true rfl) (Nat.le_of_ble_eq_true rfl) dX4_allow_108
  have b60 : ∀ (w : Hp) (a0 : Nat) (x1 : Int32) (x2 : Int32) (x3 : Int32) (x4 : Int32) (t0 : Int32), wp_X4_allow_b60 K  w a0 x1 x2 x3 x4 t0 → ∀ (H : Heap) (locs : List Loc) (ls : Array Slot), hx_H G w s H locs → lv_has ls 9 [(0, va_rf (some a0)), (1, .int x1), (2, .int x2), (3, .int x3), (4, .int x4)] → W p l e (headSpec (ws9_X4_allow) rm_X4_allow).room s m args below meth c H locs (0) (0) (Q9_X4_allow below args s G K) (F0 m 60 ls [.int t0]) := by
    intro w a0 x1 x2 x3 x4 t0 h H locs ls hH hl
    refine lv_istore hx hb dX4_allow_60 hl (by decide) (lv' := [(6, .int t0), (0, va_rf (some a0)), (1, .int x1), (2, .int x2), (3, .int x3), (4, .int x4)]) rfl (fun ls hl => ?_)
    refine lv_iload hx hb dX4_allow_62 (lv_at hl 0 rfl) ?_
    refine lv_if_ne hx hb dX4_allow_64 (tgt := 98) (by decide) (fun c_1 => ?_) (fun c_1 => ?_)
    · have h := h.2 c_1
      refine W.widen (k := 0) (n := 0) (Nat.le_of_ble_eq_true rfl) (Nat.le_of_ble_eq_true rfl) ?_
      exact b98 _ _ _ _ _ _ _ h _ _ _ hH (lv_sub hl [1, 2, 3, 4, 5, 0] rfl)
    · have h := h.1 c_1
      refine hx_aload_n C0 dX4_allow_67 rfl (lv_at hl 1 rfl) ?_
      refine lv_iload_n hx hb dX4_allow_68 rfl (lv_at hl 2 rfl) ?_
      refine lv_iload_n hx hb dX4_allow_69 rfl (lv_at hl 4 rfl) ?_
      refine lv_iload hx hb dX4_allow_70 (lv_at hl 5 rfl) ?_
      refine hx_Si C0 hU hH (As := [.int x3, .int x4]) (wk_X4_counting l h) (va_cwS 2 hts (lw_S q1192 q1193 q71 q1194) rfl rfl rfl (by decide +kernel) ⟨Nat.le_of_ble_eq_true rfl, Nat.le_of_ble_eq_true rfl⟩) rfl hl.1 rfl (Nat.le_of_ble_eq_true rfl) dX4_allow_72 ⟨Nat.le_of_ble_eq_true rfl, Nat.le_of_ble_eq_true rfl⟩ (fun i_2 w H locs hH h => ?_)
      refine lv_iload hx hb dX4_allow_75 (lv_at hl 5 rfl) ?_
      obtain ⟨ho, h⟩ := h
      refine hx_Vi C0 hU hH (As := [.int x1, .int i_2, .int x4]) (wk_X4_place l h) (cwV 3 hts (lw_V q1195 q1197 qs35 q71 q1198) rfl rfl rfl (by decide +kernel) ⟨Nat.le_of_ble_eq_true rfl, Nat.le_of_ble_eq_true rfl⟩) (hx_recv hU hH (ci := 3) rfl ho) rfl hl.1 rfl (Nat.le_of_ble_eq_true rfl) dX4_allow_77 ⟨Nat.le_of_ble_eq_true rfl, Nat.le_of_ble_eq_true rfl⟩ (fun i_3 w H locs hH h => ?_)
      refine lv_iconst (v := -1) hx hb dX4_allow_80 (by decide) ?_
      refine lv_icmp_ne hx hb dX4_allow_81 (tgt := 98) (by decide) (fun c_4 => ?_) (fun c_4 => ?_)
      · have h := h.2 c_4
        refine W.widen (k := 0) (n := 0) (Nat.le_of_ble_eq_true rfl) (Nat.le_of_ble_eq_true rfl) ?_
        exact b98 _ _ _ _ _ _ _ h _ _ _ hH (lv_sub hl [1, 2, 3, 4, 5, 0] rfl)
      · have h := h.1 c_4
        refine hx_aload_n C0 dX4_allow_84 rfl (lv_at hl 1 rfl) ?_
        refine hx_gR C0 hU hH (ci := 3) rfl in_X4 5 (by decide) q1076 (fun _ h9 => h9) h dX4_allow_85 (fun r_5 h => ?_)
        refine lv_iload_n hx hb dX4_allow_88 rfl (lv_at hl 2 rfl) ?_
        obtain ⟨b_6, rfl, h9⟩ := h
        have h := h9
        clear h9
        refine hx_aI C0 hU hH h dX4_allow_89 (fun i_7 h => ?_)
        refine lv_bipush (v := 8) hx hb dX4_allow_90 (by decide) ?_
        refine lv_icmp_ne hx hb dX4_allow_92 (tgt := 98) (by decide) (fun c_8 => ?_) (fun c_8 => ?_)
        · have h := h.2 c_8
          refine W.widen (k := 0) (n := 0) (Nat.le_of_ble_eq_true rfl) (Nat.le_of_ble_eq_true rfl) ?_
          exact b98 _ _ _ _ _ _ _ h _ _ _ hH (lv_sub hl [1, 2, 3, 4, 5, 0] rfl)
        · have h := h.1 c_8
          refine lv_iconst (v := 3) hx hb dX4_allow_95 (by decide) ?_
          refine lv_istore hx hb dX4_allow_96 hl (by decide) (lv' := [(6, .int (3 : Int32)), (0, va_rf (some a0)), (1, .int x1), (2, .int x2), (3, .int x3), (4, .int x4)]) rfl (fun ls hl => ?_)
          refine W.widen (k := 0) (n := 0) (Nat.le_of_ble_eq_true rfl) (Nat.le_of_ble_eq_true rfl) ?_
          exact b98 _ _ _ _ _ _ _ h _ _ _ hH (lv_sub hl [1, 2, 3, 4, 5, 0] rfl)
  have b55 : ∀ (w : Hp) (a0 : Nat) (x1 : Int32) (x2 : Int32) (x3 : Int32) (x4 : Int32), wp_X4_allow_b55 K  w a0 x1 x2 x3 x4 → ∀ (H : Heap) (locs : List Loc) (ls : Array Slot), hx_H G w s H locs → lv_has ls 9 [(0, va_rf (some a0)), (1, .int x1), (2, .int x2), (3, .int x3), (4, .int x4)] → W p l e (headSpec (ws9_X4_allow) rm_X4_allow).room s m args below meth c H locs (0) (0) (Q9_X4_allow below args s G K) (F0 m 55 ls []) := by
    intro w a0 x1 x2 x3 x4 h H locs ls hH hl
    refine lv_iconst (v := 2) hx hb dX4_allow_55 (by decide) ?_
    refine lv_goto hx hb dX4_allow_56 (tgt := 60) (by decide) ?_
    refine W.widen (k := 0) (n := 0) (Nat.le_of_ble_eq_true rfl) (Nat.le_of_ble_eq_true rfl) ?_
    exact b60 _ _ _ _ _ _ _ h _ _ _ hH (lv_sub hl [0, 1, 2, 3, 4] rfl)
  have b30 : ∀ (w : Hp) (a0 : Nat) (x1 : Int32) (x2 : Int32) (x3 : Int32) (x4 : Int32) (t0 : Int32), wp_X4_allow_b30 K  w a0 x1 x2 x3 x4 t0 → ∀ (H : Heap) (locs : List Loc) (ls : Array Slot), hx_H G w s H locs → lv_has ls 9 [(0, va_rf (some a0)), (1, .int x1), (2, .int x2), (3, .int x3), (4, .int x4)] → W p l e (headSpec (ws9_X4_allow) rm_X4_allow).room s m args below meth c H locs (0) (0) (Q9_X4_allow below args s G K) (F0 m 30 ls [.int t0]) := by
    intro w a0 x1 x2 x3 x4 t0 h H locs ls hH hl
    refine lv_istore hx hb dX4_allow_30 hl (by decide) (lv' := [(5, .int t0), (0, va_rf (some a0)), (1, .int x1), (2, .int x2), (3, .int x3), (4, .int x4)]) rfl (fun ls hl => ?_)
    refine lv_iload_n hx hb dX4_allow_32 rfl (lv_at hl 2 rfl) ?_
    refine lv_iload_n hx hb dX4_allow_33 rfl (lv_at hl 3 rfl) ?_
    refine hx_Si C0 hU hH (As := [.int x1, .int x2]) (wk_X4_pair l h) (va_cwS 2 hts (lw_S q1189 q1190 q71 q1191) rfl rfl rfl (by decide +kernel) ⟨Nat.le_of_ble_eq_true rfl, Nat.le_of_ble_eq_true rfl⟩) rfl hl.1 rfl (Nat.le_of_ble_eq_true rfl) dX4_allow_34 ⟨Nat.le_of_ble_eq_true rfl, Nat.le_of_ble_eq_true rfl⟩ (fun i_1 w H locs hH h => ?_)
    refine lv_iconst (v := 1) hx hb dX4_allow_37 (by decide) ?_
    refine lv_icmp_ne hx hb dX4_allow_38 (tgt := 45) (by decide) (fun c_2 => ?_) (fun c_2 => ?_)
    · have h := h.2 c_2
      refine lv_iload_n hx hb dX4_allow_45 rfl (lv_at hl 2 rfl) ?_
      refine lv_iload_n hx hb dX4_allow_46 rfl (lv_at hl 3 rfl) ?_
      refine lv_icmp_eq hx hb dX4_allow_47 (tgt := 55) (by decide) (fun c_3 => ?_) (fun c_3 => ?_)
      · have h := h.1 c_3
        refine W.widen (k := 0) (n := 0) (Nat.le_of_ble_eq_true rfl) (Nat.le_of_ble_eq_true rfl) ?_
        exact b55 _ _ _ _ _ _ h _ _ _ hH (lv_sub hl [1, 2, 3, 4, 5] rfl)
      · have h := h.2 c_3
        refine lv_iload hx hb dX4_allow_50 (lv_at hl 0 rfl) ?_
        refine lv_if_ne hx hb dX4_allow_52 (tgt := 59) (by decide) (fun c_4 => ?_) (fun c_4 => ?_)
        · have h := h.2 c_4
          refine lv_iconst (v := 0) hx hb dX4_allow_59 (by decide) ?_
          refine W.widen (k := 0) (n := 0) (Nat.le_of_ble_eq_true rfl) (Nat.le_of_ble_eq_true rfl) ?_
          exact b60 _ _ _ _ _ _ _ h _ _ _ hH (lv_sub hl [1, 2, 3, 4, 5] rfl)
        · have h := h.1 c_4
          refine W.widen (k := 0) (n := 0) (Nat.le_of_ble_eq_true rfl) (Nat.le_of_ble_eq_true rfl) ?_
          exact b55 _ _ _ _ _ _ h _ _ _ hH (lv_sub hl [1, 2, 3, 4, 5] rfl)
    · have h := h.1 c_2
      refine lv_iconst (v := 1) hx hb dX4_allow_41 (by decide) ?_
      refine lv_goto hx hb dX4_allow_42 (tgt := 60) (by decide) ?_
      refine W.widen (k := 0) (n := 0) (Nat.le_of_ble_eq_true rfl) (Nat.le_of_ble_eq_true rfl) ?_
      exact b60 _ _ _ _ _ _ _ h _ _ _ hH (lv_sub hl [1, 2, 3, 4, 5] rfl)
  have b29 : ∀ (w : Hp) (a0 : Nat) (x1 : Int32) (x2 : Int32) (x3 : Int32) (x4 : Int32), wp_X4_allow_b29 K  w a0 x1 x2 x3 x4 → ∀ (H : Heap) (locs : List Loc) (ls : Array Slot), hx_H G w s H locs → lv_has ls 9 [(0, va_rf (some a0)), (1, .int x1), (2, .int x2), (3, .int x3), (4, .int x4)] → W p l e (headSpec (ws9_X4_allow) rm_X4_allow).room s m args below meth c H locs (0) (0) (Q9_X4_allow below args s G K) (F0 m 29 ls []) := by
    intro w a0 x1 x2 x3 x4 h H locs ls hH hl
    refine lv_iconst (v := 0) hx hb dX4_allow_29 (by decide) ?_
    refine W.widen (k := 0) (n := 0) (Nat.le_of_ble_eq_true rfl) (Nat.le_of_ble_eq_true rfl) ?_
    exact b30 _ _ _ _ _ _ _ h _ _ _ hH (lv_sub hl [0, 1, 2, 3, 4] rfl)
  refine lv_iload_n hx hb dX4_allow_0 rfl (lv_at hl 3 rfl) ?_
  refine lv_i2l hx hb dX4_allow_1 rfl ?_
  refine lv_lconst (v := 0) hx hb dX4_allow_2 (by decide) ?_
  refine lv_ldc2 (v := 255) hx hb C0.2.2.2.1 (hts _ q1187) dX4_allow_3 ?_
  refine hx_Si C0 hU hH (As := [.long (x3.toInt64), .long (0 : Int64), .long (255 : Int64)]) (wk_X4_isBetween l h) (va_cwS 3 hts (lw_S q1162 q1163 q71 q1164) rfl rfl rfl (by decide +kernel) ⟨Nat.le_of_ble_eq_true rfl, Nat.le_of_ble_eq_true rfl⟩) rfl hl.1 rfl (Nat.le_of_ble_eq_true rfl) dX4_allow_6 ⟨Nat.le_of_ble_eq_true rfl, Nat.le_of_ble_eq_true rfl⟩ (fun i_1 w H locs hH h => ?_)
  refine lv_if_eq hx hb dX4_allow_9 (tgt := 29) (by decide) (fun c_2 => ?_) (fun c_2 => ?_)
  · have h := h.1 c_2
    refine W.widen (k := 0) (n := 0) (Nat.le_of_ble_eq_true rfl) (Nat.le_of_ble_eq_true rfl) ?_
    exact b29 _ _ _ _ _ _ h _ _ _ hH (lv_sub hl [0, 1, 2, 3, 4] rfl)
  · have h := h.2 c_2
    refine lv_iload hx hb dX4_allow_12 (lv_at hl 4 rfl) ?_
    refine lv_i2l hx hb dX4_allow_14 rfl ?_
    refine lv_lconst (v := 0) hx hb dX4_allow_15 (by decide) ?_
    refine lv_ldc2 (v := 8) hx hb C0.2.2.2.1 (hts _ q1188) dX4_allow_16 ?_
    refine hx_Si C0 hU hH (As := [.long (x4.toInt64), .long (0 : Int64), .long (8 : Int64)]) (wk_X4_isBetween l h) (va_cwS 3 hts (lw_S q1162 q1163 q71 q1164) rfl rfl rfl (by decide +kernel) ⟨Nat.le_of_ble_eq_true rfl, Nat.le_of_ble_eq_true rfl⟩) rfl hl.1 rfl (Nat.le_of_ble_eq_true rfl) dX4_allow_19 ⟨Nat.le_of_ble_eq_true rfl, Nat.le_of_ble_eq_true rfl⟩ (fun i_3 w H locs hH h => ?_)
    refine lv_if_eq hx hb dX4_allow_22 (tgt := 29) (by decide) (fun c_4 => ?_) (fun c_4 => ?_)
    · have h := h.1 c_4
      refine W.widen (k := 0) (n := 0) (Nat.le_of_ble_eq_true rfl) (Nat.le_of_ble_eq_true rfl) ?_
      exact b29 _ _ _ _ _ _ h _ _ _ hH (lv_sub hl [0, 1, 2, 3, 4] rfl)
    · have h := h.2 c_4
      refine lv_iconst (v := 1) hx hb dX4_allow_25 (by decide) ?_
      refine lv_goto hx hb dX4_allow_26 (tgt := 30) (by decide) ?_
      refine W.widen (k := 0) (n := 0) (Nat.le_of_ble_eq_true rfl) (Nat.le_of_ble_eq_true rfl) ?_
      exact b30 _ _ _ _ _ _ _ h _ _ _ hH (lv_sub hl [0, 1, 2, 3, 4] rfl)
def wp_X4_forbid_s94 (K : Hp → Int32 → Prop)  (bk94 : Hp → Nat → Int32 → Int32 → Prop) (w : Hp) (a0 : Nat) (x1 : Int32) (x6 : Int32) : Prop :=
  gR w a0 3 5 fun r_1 => dR r_1 fun b_2 => aI w b_2 x1 fun i_3 => br ((i_3 - (1 : Int32)) ≤ x6) (gR w a0 3 5 fun r_5 => dR r_5 fun b_6 => aI w b_6 x1 fun i_7 => sI w b_6 x1 (i_7 - (1 : Int32)) fun w => K w (i_7 - (1 : Int32))) (gR w a0 3 9 fun r_8 => dR r_8 fun b_9 => aR w b_9 x1 fun r_10 => gR w a0 3 9 fun r_11 => dR r_11 fun b_12 => aR w b_12 x1 fun r_13 => dR r_13 fun b_14 => aR w b_14 (x6 + (1 : Int32)) fun r_15 => dR r_10 fun b_16 => sR w b_16 x6 r_15 fun w => nm (x6 + 1) fun i_17 => bk94 w a0 x1 i_17)
def wp_X4_forbid_l94 (K : Hp → Int32 → Prop)  : ((Hp × Nat × Int32 × Int32) → Prop) → (Hp × Nat × Int32 × Int32) → Prop := fun bk q => wp_X4_forbid_s94 K  (fun w a0 x1 x6 => bk (w, a0, x1, x6)) q.1 q.2.1 q.2.2.1 q.2.2.2
def wp_X4_forbid_b94 (K : Hp → Int32 → Prop)  (w : Hp) (a0 : Nat) (x1 : Int32) (x6 : Int32) : Prop := lp (wp_X4_forbid_l94 K ) (w, a0, x1, x6)
def wp_X4_forbid_b82 (K : Hp → Int32 → Prop)  (w : Hp) (a0 : Nat) (x1 : Int32) (x5 : Int32) (t0 : Int32) (at1 : Nat) : Prop :=
  isO w at1 3 <| wp_X4_isWrong w at1 t0 fun w i_1 => br (i_1 = 0) (wp_X4_forbid_b94 K w a0 x1 x5) (K w (0 : Int32))
def wp_X4_forbid_b80 (K : Hp → Int32 → Prop)  (w : Hp) (a0 : Nat) (x1 : Int32) (x4 : Int32) (x5 : Int32) (at0 : Nat) : Prop :=
  wp_X4_forbid_b82 K w a0 x1 x5 x4 at0
def wp_X4_forbid_b62 (K : Hp → Int32 → Prop)  (w : Hp) (a0 : Nat) (x1 : Int32) (x4 : Int32) (t0 : Int32) : Prop :=
  br (x4 = 0) (br (t0 = (-1 : Int32)) (wp_X4_forbid_b82 K w a0 x1 t0 (3 : Int32) a0) (wp_X4_forbid_b80 K w a0 x1 x4 t0 a0)) (wp_X4_forbid_b80 K w a0 x1 x4 t0 a0)
def wp_X4_forbid_b40 (K : Hp → Int32 → Prop)  (w : Hp) (a0 : Nat) (x1 : Int32) (x2 : Int32) (x3 : Int32) (t0 : Int32) : Prop :=
  br (t0 = 0) (wp_X4_counting w x2 x3 fun w i_2 => isO w a0 3 <| wp_X4_place w a0 x1 i_2 x3 fun w i_3 => wp_X4_forbid_b62 K w a0 x1 t0 i_3) (wp_X4_forbid_b62 K w a0 x1 t0 (-1 : Int32))
def wp_X4_forbid_b35 (K : Hp → Int32 → Prop)  (w : Hp) (a0 : Nat) (x1 : Int32) (x2 : Int32) (x3 : Int32) : Prop :=
  wp_X4_forbid_b40 K w a0 x1 x2 x3 (2 : Int32)
def wp_X4_forbid (w : Hp) (a0 : Nat) (x1 : Int32) (x2 : Int32) (x3 : Int32) (K : Hp → Int32 → Prop) : Prop :=
  wp_X4_isEnd w x1 fun w i_1 => br (i_1 = 0) (wp_X4_forbid_b40 K w a0 x1 x2 x3 (1 : Int32)) (wp_X4_isBetween w (x2.toInt64) (0 : Int64) (255 : Int64) fun w i_3 => br (i_3 = 0) (wp_X4_forbid_b35 K w a0 x1 x2 x3) (wp_X4_isBetween w (x3.toInt64) (0 : Int64) (8 : Int64) fun w i_5 => br (i_5 = 0) (wp_X4_forbid_b35 K w a0 x1 x2 x3) (wp_X4_forbid_b40 K w a0 x1 x2 x3 (0 : Int32))))
abbrev rm_X4_forbid : Room := { frames := 2, cells := 0, slots := 0, locals := 45 }
abbrev ws9_X4_forbid : List Cond := ws_ yX4_forbid cX4_forbid 7 (Option.some Jvm.ClassFile.FieldType.int)
abbrev Q9_X4_forbid (below : List Frame) (args : Array Value) (s : State) (G : hG) (K : Hp → Int32 → Prop) : State → Prop := MQ below (hx_Qi G K) args s 0 0 (hx_A G)
set_option maxHeartbeats 4000000 in
set_option maxRecDepth 100000 in
theorem wk_X4_forbid (l : Launch) {G : hG} {w : Hp} {a0 : Nat} {x1 : Int32} {x2 : Int32} {x3 : Int32} {K : Hp → Int32 → Prop} (h : wp_X4_forbid w a0 x1 x2 x3 K) : hx_Mi l yX4_forbid (ws9_X4_forbid) rm_X4_forbid G w [.ref a0, .int x1, .int x2, .int x3] K 0 0 := by
  refine Met.ofW (cc := cX4_forbid) (maxL := 7) (ret := (Option.some Jvm.ClassFile.FieldType.int)) (by decide +kernel) rfl ?_
  intro p e s m args below meth c s₁ B hml hv
  refine hx_in (own := RX4) (av := [.ref a0, .int x1, .int x2, .int x3]) (vl := [(0, va_rf (some a0)), (1, .int x1), (2, .int x2), (3, .int x3)]) rfl rfl (Nat.le_of_ble_eq_true rfl) rfl B hml hv ?_
  intro C0 hU hH hr hlocks hin ls hl
  have hx := C0.1
  have hb := C0.2.1
  have hts := C0.2.2.2.2
  have L94 : ∀ (n94 : Nat) (w : Hp) (a0 : Nat) (x1 : Int32) (x6 : Int32), lpN (wp_X4_forbid_l94 K ) n94 (w, a0, x1, x6) → ∀ (H : Heap) (locs : List Loc) (ls : Array Slot), hx_H G w s H locs → lv_has ls 7 [(0, va_rf (some a0)), (1, .int x1), (6, .int x6)] → W p l e (headSpec (ws9_X4_forbid) rm_X4_forbid).room s m args below meth c H locs (0) (0) (Q9_X4_forbid below args s G K) (F0 m 94 ls []) := by
    intro n94
    induction n94 with
    | zero => intro w a0 x1 x6 h; exact h.elim
    | succ n94 ih94 =>
      intro w a0 x1 x6 h H locs ls hH hl
      have h : wp_X4_forbid_s94 K  (fun w a0 x1 x6 => lpN (wp_X4_forbid_l94 K ) n94 (w, a0, x1, x6)) w a0 x1 x6 := h
      refine lv_iload hx hb dX4_forbid_94 (lv_at hl 2 rfl) ?_
      refine hx_aload_n C0 dX4_forbid_96 rfl (lv_at hl 0 rfl) ?_
      refine hx_gR C0 hU hH (ci := 3) rfl in_X4 5 (by decide) q1076 (fun _ h9 => h9) h dX4_forbid_97 (fun r_1 h => ?_)
      refine lv_iload_n hx hb dX4_forbid_100 rfl (lv_at hl 1 rfl) ?_
      obtain ⟨b_2, rfl, h9⟩ := h
      have h := h9
      clear h9
      refine hx_aI C0 hU hH h dX4_forbid_101 (fun i_3 h => ?_)
      refine lv_iconst (v := 1) hx hb dX4_forbid_102 (by decide) ?_
      refine lv_isub hx hb dX4_forbid_103 ?_
      refine lv_icmp_ge hx hb dX4_forbid_104 (tgt := 133) (by decide) (fun c_4 => ?_) (fun c_4 => ?_)
      · have h := h.1 c_4
        refine hx_aload_n C0 dX4_forbid_133 rfl (lv_at hl 0 rfl) ?_
        refine hx_gR C0 hU hH (ci := 3) rfl in_X4 5 (by decide) q1076 (fun _ h9 => h9) h dX4_forbid_134 (fun r_5 h => ?_)
        refine lv_iload_n hx hb dX4_forbid_137 rfl (lv_at hl 1 rfl) ?_
        refine lv_dup2_11 hx hb dX4_forbid_138 rfl (hx_rfc _) ?_
        obtain ⟨b_6, rfl, h9⟩ := h
        have h := h9
        clear h9
        refine hx_aI C0 hU hH h dX4_forbid_139 (fun i_7 h => ?_)
        refine lv_iconst (v := 1) hx hb dX4_forbid_140 (by decide) ?_
        refine lv_isub hx hb dX4_forbid_141 ?_
        refine lv_dup_x2 hx hb dX4_forbid_142 rfl rfl rfl ?_
        refine hx_sI C0 hU hH h dX4_forbid_143 (fun w H locs hH h => ?_)
        exact hx_reti C0 hH hr hlocks h (Nat.le_of_ble_eq_true rfl) (Nat.le_of_ble_eq_true rfl) dX4_forbid_144
      · have h := h.2 c_4
        refine hx_aload_n C0 dX4_forbid_107 rfl (lv_at hl 0 rfl) ?_
        refine hx_gR C0 hU hH (ci := 3) rfl in_X4 9 (by decide) q1080 (fun _ h9 => h9) h dX4_forbid_108 (fun r_8 h => ?_)
        refine lv_iload_n hx hb dX4_forbid_111 rfl (lv_at hl 1 rfl) ?_
        obtain ⟨b_9, rfl, h9⟩ := h
        have h := h9
        clear h9
        refine hx_aR C0 hU hH h dX4_forbid_112 (fun r_10 h => ?_)
        refine lv_iload hx hb dX4_forbid_113 (lv_at hl 2 rfl) ?_
        refine hx_aload_n C0 dX4_forbid_115 rfl (lv_at hl 0 rfl) ?_
        refine hx_gR C0 hU hH (ci := 3) rfl in_X4 9 (by decide) q1080 (fun _ h9 => h9) h dX4_forbid_116 (fun r_11 h => ?_)
        refine lv_iload_n hx hb dX4_forbid_119 rfl (lv_at hl 1 rfl) ?_
        obtain ⟨b_12, rfl, h9⟩ := h
        have h := h9
        clear h9
        refine hx_aR C0 hU hH h dX4_forbid_120 (fun r_13 h => ?_)
        refine lv_iload hx hb dX4_forbid_121 (lv_at hl 2 rfl) ?_
        refine lv_iconst (v := 1) hx hb dX4_forbid_123 (by decide) ?_
        refine lv_iadd hx hb dX4_forbid_124 ?_
        obtain ⟨b_14, rfl, h9⟩ := h
        have h := h9
        clear h9
        refine hx_aR C0 hU hH h dX4_forbid_125 (fun r_15 h => ?_)
        obtain ⟨b_16, rfl, h9⟩ := h
        have h := h9
        clear h9
        refine hx_sR C0 hU hH h dX4_forbid_126 (fun w H locs hH h => ?_)
        obtain ⟨i_17, ei_17⟩ : ∃ z, z = x6 + 1 := ⟨_, rfl⟩
        have h := h i_17 ei_17
        refine lv_iinc (k := 2) hx hb dX4_forbid_127 hl rfl (v := i_17) (by rw [ei_17]; rfl) (by decide) (lv' := [(6, .int i_17), (0, va_rf (some a0)), (1, .int x1)]) rfl (fun ls hl => ?_)
        refine lv_goto hx hb dX4_forbid_130 (tgt := 94) (by decide) ?_
        refine W.widen (k := 0) (n := 0) (Nat.le_of_ble_eq_true rfl) (Nat.le_of_ble_eq_true rfl) ?_
        exact ih94 _ _ _ _ h _ _ _ hH (lv_sub hl [1, 2, 0] rfl)
  have b82 : ∀ (w : Hp) (a0 : Nat) (x1 : Int32) (x5 : Int32) (t0 : Int32) (at1 : Nat), wp_X4_forbid_b82 K  w a0 x1 x5 t0 at1 → ∀ (H : Heap) (locs : List Loc) (ls : Array Slot), hx_H G w s H locs → lv_has ls 7 [(0, va_rf (some a0)), (1, .int x1), (5, .int x5)] → W p l e (headSpec (ws9_X4_forbid) rm_X4_forbid).room s m args below meth c H locs (0) (0) (Q9_X4_forbid below args s G K) (F0 m 82 ls [.int t0, va_rf (some at1)]) := by
    intro w a0 x1 x5 t0 at1 h H locs ls hH hl
    obtain ⟨ho, h⟩ := h
    refine hx_Vi C0 hU hH (As := [.int t0]) (wk_X4_isWrong l h) (cwV 1 hts (lw_V q1166 q1168 qs34 q71 q1169) rfl rfl rfl (by decide +kernel) ⟨Nat.le_of_ble_eq_true rfl, Nat.le_of_ble_eq_true rfl⟩) (hx_recv hU hH (ci := 3) rfl ho) rfl hl.1 rfl (Nat.le_of_ble_eq_true rfl) dX4_forbid_82 ⟨Nat.le_of_ble_eq_true rfl, Nat.le_of_ble_eq_true rfl⟩ (fun i_1 w H locs hH h => ?_)
    refine lv_if_eq hx hb dX4_forbid_85 (tgt := 90) (by decide) (fun c_2 => ?_) (fun c_2 => ?_)
    · have h := h.1 c_2
      refine lv_iload hx hb dX4_forbid_90 (lv_at hl 2 rfl) ?_
      refine lv_istore hx hb dX4_forbid_92 hl (by decide) (lv' := [(6, .int x5), (0, va_rf (some a0)), (1, .int x1), (5, .int x5)]) rfl (fun ls hl => ?_)
      obtain ⟨n9, h⟩ := h
      refine W.widen (k := 0) (n := 0) (Nat.le_of_ble_eq_true rfl) (Nat.le_of_ble_eq_true rfl) ?_
      exact L94 n9 _ _ _ _ h _ _ _ hH (lv_sub hl [1, 2, 0] rfl)
    · have h := h.2 c_2
      refine lv_iconst (v := 0) hx hb dX4_forbid_88 (by decide) ?_
      exact hx_reti C0 hH hr hlocks h (Nat.le_of_ble_eq_true rfl) (Nat.le_of_ble_eq_true rfl) dX4_forbid_89
  have b80 : ∀ (w : Hp) (a0 : Nat) (x1 : Int32) (x4 : Int32) (x5 : Int32) (at0 : Nat), wp_X4_forbid_b80 K  w a0 x1 x4 x5 at0 → ∀ (H : Heap) (locs : List Loc) (ls : Array Slot), hx_H G w s H locs → lv_has ls 7 [(0, va_rf (some a0)), (1, .int x1), (4, .int x4), (5, .int x5)] → W p l e (headSpec (ws9_X4_forbid) rm_X4_forbid).room s m args below meth c H locs (0) (0) (Q9_X4_forbid below args s G K) (F0 m 80 ls [va_rf (some at0)]) := by
    intro w a0 x1 x4 x5 at0 h H locs ls hH hl
    refine lv_iload hx hb dX4_forbid_80 (lv_at hl 2 rfl) ?_
    refine W.widen (k := 0) (n := 0) (Nat.le_of_ble_eq_true rfl) (Nat.le_of_ble_eq_true rfl) ?_
    exact b82 _ _ _ _ _ _ h _ _ _ hH (lv_sub hl [0, 1, 3] rfl)
  have b62 : ∀ (w : Hp) (a0 : Nat) (x1 : Int32) (x4 : Int32) (t0 : Int32), wp_X4_forbid_b62 K  w a0 x1 x4 t0 → ∀ (H : Heap) (locs : List Loc) (ls : Array Slot), hx_H G w s H locs → lv_has ls 7 [(0, va_rf (some a0)), (1, .int x1), (4, .int x4)] → W p l e (headSpec (ws9_X4_forbid) rm_X4_forbid).room s m args below meth c H locs (0) (0) (Q9_X4_forbid below args s G K) (F0 m 62 ls [.int t0]) := by
    intro w a0 x1 x4 t0 h H locs ls hH hl
    refine lv_istore hx hb dX4_forbid_62 hl (by decide) (lv' := [(5, .int t0), (0, va_rf (some a0)), (1, .int x1), (4, .int x4)]) rfl (fun ls hl => ?_)
    refine hx_aload_n C0 dX4_forbid_64 rfl (lv_at hl 1 rfl) ?_
    refine lv_iload hx hb dX4_forbid_65 (lv_at hl 3 rfl) ?_
    refine lv_if_ne hx hb dX4_forbid_67 (tgt := 80) (by decide) (fun c_1 => ?_) (fun c_1 => ?_)
    · have h := h.2 c_1
      refine W.widen (k := 0) (n := 0) (Nat.le_of_ble_eq_true rfl) (Nat.le_of_ble_eq_true rfl) ?_
      exact b80 _ _ _ _ _ _ h _ _ _ hH (lv_sub hl [1, 2, 3, 0] rfl)
    · have h := h.1 c_1
      refine lv_iload hx hb dX4_forbid_70 (lv_at hl 0 rfl) ?_
      refine lv_iconst (v := -1) hx hb dX4_forbid_72 (by decide) ?_
      refine lv_icmp_ne hx hb dX4_forbid_73 (tgt := 80) (by decide) (fun c_2 => ?_) (fun c_2 => ?_)
      · have h := h.2 c_2
        refine W.widen (k := 0) (n := 0) (Nat.le_of_ble_eq_true rfl) (Nat.le_of_ble_eq_true rfl) ?_
        exact b80 _ _ _ _ _ _ h _ _ _ hH (lv_sub hl [1, 2, 3, 0] rfl)
      · have h := h.1 c_2
        refine lv_iconst (v := 3) hx hb dX4_forbid_76 (by decide) ?_
        refine lv_goto hx hb dX4_forbid_77 (tgt := 82) (by decide) ?_
        refine W.widen (k := 0) (n := 0) (Nat.le_of_ble_eq_true rfl) (Nat.le_of_ble_eq_true rfl) ?_
        exact b82 _ _ _ _ _ _ h _ _ _ hH (lv_sub hl [1, 2, 0] rfl)
  have b40 : ∀ (w : Hp) (a0 : Nat) (x1 : Int32) (x2 : Int32) (x3 : Int32) (t0 : Int32), wp_X4_forbid_b40 K  w a0 x1 x2 x3 t0 → ∀ (H : Heap) (locs : List Loc) (ls : Array Slot), hx_H G w s H locs → lv_has ls 7 [(0, va_rf (some a0)), (1, .int x1), (2, .int x2), (3, .int x3)] → W p l e (headSpec (ws9_X4_forbid) rm_X4_forbid).room s m args below meth c H locs (0) (0) (Q9_X4_forbid below args s G K) (F0 m 40 ls [.int t0]) := by
    intro w a0 x1 x2 x3 t0 h H locs ls hH hl
    refine lv_istore hx hb dX4_forbid_40 hl (by decide) (lv' := [(4, .int t0), (0, va_rf (some a0)), (1, .int x1), (2, .int x2), (3, .int x3)]) rfl (fun ls hl => ?_)
    refine lv_iload hx hb dX4_forbid_42 (lv_at hl 0 rfl) ?_
    refine lv_if_ne hx hb dX4_forbid_44 (tgt := 61) (by decide) (fun c_1 => ?_) (fun c_1 => ?_)
    · have h := h.2 c_1
      refine lv_iconst (v := -1) hx hb dX4_forbid_61 (by decide) ?_
      refine W.widen (k := 0) (n := 0) (Nat.le_of_ble_eq_true rfl) (Nat.le_of_ble_eq_true rfl) ?_
      exact b62 _ _ _ _ _ h _ _ _ hH (lv_sub hl [1, 2, 0] rfl)
    · have h := h.1 c_1
      refine hx_aload_n C0 dX4_forbid_47 rfl (lv_at hl 1 rfl) ?_
      refine lv_iload_n hx hb dX4_forbid_48 rfl (lv_at hl 2 rfl) ?_
      refine lv_iload_n hx hb dX4_forbid_49 rfl (lv_at hl 3 rfl) ?_
      refine lv_iload_n hx hb dX4_forbid_50 rfl (lv_at hl 4 rfl) ?_
      refine hx_Si C0 hU hH (As := [.int x2, .int x3]) (wk_X4_counting l h) (va_cwS 2 hts (lw_S q1192 q1193 q71 q1194) rfl rfl rfl (by decide +kernel) ⟨Nat.le_of_ble_eq_true rfl, Nat.le_of_ble_eq_true rfl⟩) rfl hl.1 rfl (Nat.le_of_ble_eq_true rfl) dX4_forbid_51 ⟨Nat.le_of_ble_eq_true rfl, Nat.le_of_ble_eq_true rfl⟩ (fun i_2 w H locs hH h => ?_)
      refine lv_iload_n hx hb dX4_forbid_54 rfl (lv_at hl 4 rfl) ?_
      obtain ⟨ho, h⟩ := h
      refine hx_Vi C0 hU hH (As := [.int x1, .int i_2, .int x3]) (wk_X4_place l h) (cwV 3 hts (lw_V q1195 q1197 qs35 q71 q1198) rfl rfl rfl (by decide +kernel) ⟨Nat.le_of_ble_eq_true rfl, Nat.le_of_ble_eq_true rfl⟩) (hx_recv hU hH (ci := 3) rfl ho) rfl hl.1 rfl (Nat.le_of_ble_eq_true rfl) dX4_forbid_55 ⟨Nat.le_of_ble_eq_true rfl, Nat.le_of_ble_eq_true rfl⟩ (fun i_3 w H locs hH h => ?_)
      refine lv_goto hx hb dX4_forbid_58 (tgt := 62) (by decide) ?_
      refine W.widen (k := 0) (n := 0) (Nat.le_of_ble_eq_true rfl) (Nat.le_of_ble_eq_true rfl) ?_
      exact b62 _ _ _ _ _ h _ _ _ hH (lv_sub hl [1, 2, 0] rfl)
  have b35 : ∀ (w : Hp) (a0 : Nat) (x1 : Int32) (x2 : Int32) (x3 : Int32), wp_X4_forbid_b35 K  w a0 x1 x2 x3 → ∀ (H : Heap) (locs : List Loc) (ls : Array Slot), hx_H G w s H locs → lv_has ls 7 [(0, va_rf (some a0)), (1, .int x1), (2, .int x2), (3, .int x3)] → W p l e (headSpec (ws9_X4_forbid) rm_X4_forbid).room s m args below meth c H locs (0) (0) (Q9_X4_forbid below args s G K) (F0 m 35 ls []) := by
    intro w a0 x1 x2 x3 h H locs ls hH hl
    refine lv_iconst (v := 2) hx hb dX4_forbid_35 (by decide) ?_
    refine lv_goto hx hb dX4_forbid_36 (tgt := 40) (by decide) ?_
    refine W.widen (k := 0) (n := 0) (Nat.le_of_ble_eq_true rfl) (Nat.le_of_ble_eq_true rfl) ?_
    exact b40 _ _ _ _ _ _ h _ _ _ hH (lv_sub hl [0, 1, 2, 3] rfl)
  refine lv_iload_n hx hb dX4_forbid_0 rfl (lv_at hl 1 rfl) ?_
  refine hx_Si C0 hU hH (As := [.int x1]) (wk_X4_isEnd l h) (va_cwS 1 hts (lw_S q1175 q1176 q71 q1177) rfl rfl rfl (by decide +kernel) ⟨Nat.le_of_ble_eq_true rfl, Nat.le_of_ble_eq_true rfl⟩) rfl hl.1 rfl (Nat.le_of_ble_eq_true rfl) dX4_forbid_1 ⟨Nat.le_of_ble_eq_true rfl, Nat.le_of_ble_eq_true rfl⟩ (fun i_1 w H locs hH h => ?_)
  refine lv_if_ne hx hb dX4_forbid_4 (tgt := 11) (by decide) (fun c_2 => ?_) (fun c_2 => ?_)
  · have h := h.2 c_2
    refine lv_iload_n hx hb dX4_forbid_11 rfl (lv_at hl 2 rfl) ?_
    refine lv_i2l hx hb dX4_forbid_12 rfl ?_
    refine lv_lconst (v := 0) hx hb dX4_forbid_13 (by decide) ?_
    refine lv_ldc2 (v := 255) hx hb C0.2.2.2.1 (hts _ q1187) dX4_forbid_14 ?_
    refine hx_Si C0 hU hH (As := [.long (x2.toInt64), .long (0 : Int64), .long (255 : Int64)]) (wk_X4_isBetween l h) (va_cwS 3 hts (lw_S q1162 q1163 q71 q1164) rfl rfl rfl (by decide +kernel) ⟨Nat.le_of_ble_eq_true rfl, Nat.le_of_ble_eq_true rfl⟩) rfl hl.1 rfl (Nat.le_of_ble_eq_true rfl) dX4_forbid_17 ⟨Nat.le_of_ble_eq_true rfl, Nat.le_of_ble_eq_true rfl⟩ (fun i_3 w H locs hH h => ?_)
    refine lv_if_eq hx hb dX4_forbid_20 (tgt := 35) (by decide) (fun c_4 => ?_) (fun c_4 => ?_)
    · have h := h.1 c_4
      refine W.widen (k := 0) (n := 0) (Nat.le_of_ble_eq_true rfl) (Nat.le_of_ble_eq_true rfl) ?_
      exact b35 _ _ _ _ _ h _ _ _ hH (lv_sub hl [0, 1, 2, 3] rfl)
    · have h := h.2 c_4
      refine lv_iload_n hx hb dX4_forbid_23 rfl (lv_at hl 3 rfl) ?_
      refine lv_i2l hx hb dX4_forbid_24 rfl ?_
      refine lv_lconst (v := 0) hx hb dX4_forbid_25 (by decide) ?_
      refine lv_ldc2 (v := 8) hx hb C0.2.2.2.1 (hts _ q1188) dX4_forbid_26 ?_
      refine hx_Si C0 hU hH (As := [.long (x3.toInt64), .long (0 : Int64), .long (8 : Int64)]) (wk_X4_isBetween l h) (va_cwS 3 hts (lw_S q1162 q1163 q71 q1164) rfl rfl rfl (by decide +kernel) ⟨Nat.le_of_ble_eq_true rfl, Nat.le_of_ble_eq_true rfl⟩) rfl hl.1 rfl (Nat.le_of_ble_eq_true rfl) dX4_forbid_29 ⟨Nat.le_of_ble_eq_true rfl, Nat.le_of_ble_eq_true rfl⟩ (fun i_5 w H locs hH h => ?_)
      refine lv_if_ne hx hb dX4_forbid_32 (tgt := 39) (by decide) (fun c_6 => ?_) (fun c_6 => ?_)
      · have h := h.2 c_6
        refine lv_iconst (v := 0) hx hb dX4_forbid_39 (by decide) ?_
        refine W.widen (k := 0) (n := 0) (Nat.le_of_ble_eq_true rfl) (Nat.le_of_ble_eq_true rfl) ?_
        exact b40 _ _ _ _ _ _ h _ _ _ hH (lv_sub hl [0, 1, 2, 3] rfl)
      · have h := h.1 c_6
        refine W.widen (k := 0) (n := 0) (Nat.le_of_ble_eq_true rfl) (Nat.le_of_ble_eq_true rfl) ?_
        exact b35 _ _ _ _ _ h _ _ _ hH (lv_sub hl [0, 1, 2, 3] rfl)
  · have h := h.1 c_2
    refine lv_iconst (v := 1) hx hb dX4_forbid_7 (by decide) ?_
    refine lv_goto hx hb dX4_forbid_8 (tgt := 40) (by decide) ?_
    refine W.widen (k := 0) (n := 0) (Nat.le_of_ble_eq_true rfl) (Nat.le_of_ble_eq_true rfl) ?_
    exact b40 _ _ _ _ _ _ h _ _ _ hH (lv_sub hl [0, 1, 2, 3] rfl)
def wp_X4_age (w : Hp) (a0 : Nat) (x1 : Int32) (x2 : Int32) (x3 : Int32) (K : Hp → Int32 → Prop) : Prop :=
  gI w a0 3 0 fun i_1 => gR w a0 3 21 fun r_2 => dR r_2 fun b_3 => aR w b_3 x1 fun r_4 => dR r_4 fun b_5 => aR w b_5 x2 fun r_6 => dR r_6 fun b_7 => aR w b_7 x3 fun r_8 => dR r_8 fun b_9 => aI w b_9 (2 : Int32) fun i_10 => K w (i_1 - i_10)
abbrev rm_X4_age : Room := { frames := 0, cells := 0, slots := 0, locals := 0 }
abbrev ws9_X4_age : List Cond := ws_ yX4_age cX4_age 4 (Option.some Jvm.ClassFile.FieldType.int)
abbrev Q9_X4_age (below : List Frame) (args : Array Value) (s : State) (G : hG) (K : Hp → Int32 → Prop) : State → Prop := MQ below (hx_Qi G K) args s 0 0 (hx_A G)
set_option maxHeartbeats 4000000 in
set_option maxRecDepth 100000 in
theorem wk_X4_age (l : Launch) {G : hG} {w : Hp} {a0 : Nat} {x1 : Int32} {x2 : Int32} {x3 : Int32} {K : Hp → Int32 → Prop} (h : wp_X4_age w a0 x1 x2 x3 K) : hx_Mi l yX4_age (ws9_X4_age) rm_X4_age G w [.ref a0, .int x1, .int x2, .int x3] K 0 0 := by
  refine Met.ofW (cc := cX4_age) (maxL := 4) (ret := (Option.some Jvm.ClassFile.FieldType.int)) (by decide +kernel) rfl ?_
  intro p e s m args below meth c s₁ B hml hv
  refine hx_in (own := RX4) (av := [.ref a0, .int x1, .int x2, .int x3]) (vl := [(0, va_rf (some a0)), (1, .int x1), (2, .int x2), (3, .int x3)]) rfl rfl (Nat.le_of_ble_eq_true rfl) rfl B hml hv ?_
  intro C0 hU hH hr hlocks hin ls hl
  have hx := C0.1
  have hb := C0.2.1
  have hts := C0.2.2.2.2
  refine hx_aload_n C0 dX4_age_0 rfl (lv_at hl 0 rfl) ?_
  refine hx_gI C0 hU hH (ci := 3) rfl in_X4 0 (by decide) q1071 (fun _ h9 => h9) h dX4_age_1 (fun i_1 h => ?_)
  refine hx_aload_n C0 dX4_age_4 rfl (lv_at hl 0 rfl) ?_
  refine hx_gR C0 hU hH (ci := 3) rfl in_X4 21 (by decide) q1092 (fun _ h9 => h9) h dX4_age_5 (fun r_2 h => ?_)
  refine lv_iload_n hx hb dX4_age_8 rfl (lv_at hl 1 rfl) ?_
  obtain ⟨b_3, rfl, h9⟩ := h
  have h := h9
  clear h9
  refine hx_aR C0 hU hH h dX4_age_9 (fun r_4 h => ?_)
  refine lv_iload_n hx hb dX4_age_10 rfl (lv_at hl 2 rfl) ?_
  obtain ⟨b_5, rfl, h9⟩ := h
  have h := h9
  clear h9
  refine hx_aR C0 hU hH h dX4_age_11 (fun r_6 h => ?_)
  refine lv_iload_n hx hb dX4_age_12 rfl (lv_at hl 3 rfl) ?_
  obtain ⟨b_7, rfl, h9⟩ := h
  have h := h9
  clear h9
  refine hx_aR C0 hU hH h dX4_age_13 (fun r_8 h => ?_)
  refine lv_iconst (v := 2) hx hb dX4_age_14 (by decide) ?_
  obtain ⟨b_9, rfl, h9⟩ := h
  have h := h9
  clear h9
  refine hx_aI C0 hU hH h dX4_age_15 (fun i_10 h => ?_)
  refine lv_isub hx hb dX4_age_16 ?_
  exact hx_reti C0 hH hr hlocks h (Nat.le_of_ble_eq_true rfl) (Nat.le_of_ble_eq_true rfl) dX4_age_17
def wp_X4_put_s34 (K : Hp → Prop)  (bk34 : Hp → Nat → Nat → Nat → Int32 → Prop) (w : Hp) (a0 : Nat) (a4 : Nat) (a5 : Nat) (x6 : Int32) : Prop :=
  aN w a4 fun i_1 => br (i_1 ≤ x6) (sI w a5 (15 : Int32) (-1 : Int32) fun w => gR w a0 3 23 fun r_3 => gI w a0 3 24 fun i_4 => dR r_3 fun b_5 => sR w b_5 i_4 (some a5) fun w => gI w a0 3 24 fun i_6 => pV w a0 3 24 (.int (i_6 + (1 : Int32))) fun w => K w) (aI w a4 x6 fun i_7 => sI w a5 ((3 : Int32) + x6) i_7 fun w => aI w a4 x6 fun i_8 => sI w a5 ((9 : Int32) + x6) i_8 fun w => nm (x6 + 1) fun i_9 => bk34 w a0 a4 a5 i_9)
def wp_X4_put_l34 (K : Hp → Prop)  : ((Hp × Nat × Nat × Nat × Int32) → Prop) → (Hp × Nat × Nat × Nat × Int32) → Prop := fun bk q => wp_X4_put_s34 K  (fun w a0 a4 a5 x6 => bk (w, a0, a4, a5, x6)) q.1 q.2.1 q.2.2.1 q.2.2.2.1 q.2.2.2.2
def wp_X4_put_b34 (K : Hp → Prop)  (w : Hp) (a0 : Nat) (a4 : Nat) (a5 : Nat) (x6 : Int32) : Prop := lp (wp_X4_put_l34 K ) (w, a0, a4, a5, x6)
def wp_X4_put (w : Hp) (a0 : Nat) (x1 : Int32) (x2 : Int32) (x3 : Int32) (a4 : Nat) (K : Hp → Prop) : Prop :=
  gI w a0 3 24 fun i_1 => br (i_1 = (60 : Int32)) (K w) (nI_ w (16 : Int32) 16 fun w b_3 => sI w b_3 (0 : Int32) x1 fun w => sI w b_3 (1 : Int32) x2 fun w => sI w b_3 (2 : Int32) x3 fun w => wp_X4_put_b34 K w a0 a4 b_3 (0 : Int32))
abbrev rm_X4_put : Room := { frames := 0, cells := 1, slots := 16, locals := 0 }
abbrev ws9_X4_put : List Cond := ws_ yX4_put cX4_put 7 none
abbrev Q9_X4_put (below : List Frame) (args : Array Value) (s : State) (G : hG) (K : Hp → Prop) : State → Prop := MQ below (hx_Qv G K) args s 1 16 (hx_A G)
set_option maxHeartbeats 4000000 in
set_option maxRecDepth 100000 in
theorem wk_X4_put (l : Launch) {G : hG} {w : Hp} {a0 : Nat} {x1 : Int32} {x2 : Int32} {x3 : Int32} {a4 : Nat} {K : Hp → Prop} (h : wp_X4_put w a0 x1 x2 x3 a4 K) : hx_Mv l yX4_put (ws9_X4_put) rm_X4_put G w [.ref a0, .int x1, .int x2, .int x3, .ref a4] K 1 16 := by
  refine Met.ofW (cc := cX4_put) (maxL := 7) (ret := none) (by decide +kernel) rfl ?_
  intro p e s m args below meth c s₁ B hml hv
  refine hx_in (own := RX4) (av := [.ref a0, .int x1, .int x2, .int x3, .ref a4]) (vl := [(0, va_rf (some a0)), (1, .int x1), (2, .int x2), (3, .int x3), (4, va_rf (some a4))]) rfl rfl (Nat.le_of_ble_eq_true rfl) rfl B hml hv ?_
  intro C0 hU hH hr hlocks hin ls hl
  have hx := C0.1
  have hb := C0.2.1
  have hts := C0.2.2.2.2
  have L34 : ∀ (n34 : Nat) (w : Hp) (a0 : Nat) (a4 : Nat) (a5 : Nat) (x6 : Int32), lpN (wp_X4_put_l34 K ) n34 (w, a0, a4, a5, x6) → ∀ (H : Heap) (locs : List Loc) (ls : Array Slot), hx_H G w s H locs → lv_has ls 7 [(0, va_rf (some a0)), (4, va_rf (some a4)), (5, va_rf (some a5)), (6, .int x6)] → W p l e (headSpec (ws9_X4_put) rm_X4_put).room s m args below meth c H locs (1) (16) (Q9_X4_put below args s G K) (F0 m 34 ls []) := by
    intro n34
    induction n34 with
    | zero => intro w a0 a4 a5 x6 h; exact h.elim
    | succ n34 ih34 =>
      intro w a0 a4 a5 x6 h H locs ls hH hl
      have h : wp_X4_put_s34 K  (fun w a0 a4 a5 x6 => lpN (wp_X4_put_l34 K ) n34 (w, a0, a4, a5, x6)) w a0 a4 a5 x6 := h
      refine lv_iload hx hb dX4_put_34 (lv_at hl 3 rfl) ?_
      refine hx_aload C0 dX4_put_36 (lv_at hl 1 rfl) ?_
      refine hx_aN C0 hU hH h dX4_put_38 (fun i_1 h => ?_)
      refine lv_icmp_ge hx hb dX4_put_39 (tgt := 73) (by decide) (fun c_2 => ?_) (fun c_2 => ?_)
      · have h := h.1 c_2
        refine hx_aload C0 dX4_put_73 (lv_at hl 2 rfl) ?_
        refine lv_bipush (v := 15) hx hb dX4_put_75 (by decide) ?_
        refine lv_iconst (v := -1) hx hb dX4_put_77 (by decide) ?_
        refine hx_sI C0 hU hH h dX4_put_78 (fun w H locs hH h => ?_)
        refine hx_aload_n C0 dX4_put_79 rfl (lv_at hl 0 rfl) ?_
        refine hx_gR C0 hU hH (ci := 3) rfl in_X4 23 (by decide) q1094 (fun _ h9 => h9) h dX4_put_80 (fun r_3 h => ?_)
        refine hx_aload_n C0 dX4_put_83 rfl (lv_at hl 0 rfl) ?_
        refine hx_gI C0 hU hH (ci := 3) rfl in_X4 24 (by decide) q1095 (fun _ h9 => h9) h dX4_put_84 (fun i_4 h => ?_)
        refine hx_aload C0 dX4_put_87 (lv_at hl 2 rfl) ?_
        obtain ⟨b_5, rfl, h9⟩ := h
        have h := h9
        clear h9
        refine hx_sR C0 hU hH h dX4_put_89 (fun w H locs hH h => ?_)
        refine hx_aload_n C0 dX4_put_90 rfl (lv_at hl 0 rfl) ?_
        refine lv_dup hx hb dX4_put_91 rfl ?_
        refine hx_gI C0 hU hH (ci := 3) rfl in_X4 24 (by decide) q1095 (fun _ h9 => h9) h dX4_put_92 (fun i_6 h => ?_)
        refine lv_iconst (v := 1) hx hb dX4_put_95 (by decide) ?_
        refine lv_iadd hx hb dX4_put_96 ?_
        refine hx_pV C0 hU hH (ci := 3) rfl in_X4 tyX4 tyX4_ok nmX4 24 (by decide) q1095 (fun _ h9 => h9) (Or.inl rfl) rfl rfl h dX4_put_97 (fun w H locs hH h => ?_)
        exact hx_retv C0 hH hr hlocks h (Nat.le_of_ble_eq_true rfl) (Nat.le_of_ble_eq_true rfl) dX4_put_100
      · have h := h.2 c_2
        refine hx_aload C0 dX4_put_42 (lv_at hl 2 rfl) ?_
        refine lv_iconst (v := 3) hx hb dX4_put_44 (by decide) ?_
        refine lv_iload hx hb dX4_put_45 (lv_at hl 3 rfl) ?_
        refine lv_iadd hx hb dX4_put_47 ?_
        refine hx_aload C0 dX4_put_48 (lv_at hl 1 rfl) ?_
        refine lv_iload hx hb dX4_put_50 (lv_at hl 3 rfl) ?_
        refine hx_aI C0 hU hH h dX4_put_52 (fun i_7 h => ?_)
        refine hx_sI C0 hU hH h dX4_put_53 (fun w H locs hH h => ?_)
        refine hx_aload C0 dX4_put_54 (lv_at hl 2 rfl) ?_
        refine lv_bipush (v := 9) hx hb dX4_put_56 (by decide) ?_
        refine lv_iload hx hb dX4_put_58 (lv_at hl 3 rfl) ?_
        refine lv_iadd hx hb dX4_put_60 ?_
        refine hx_aload C0 dX4_put_61 (lv_at hl 1 rfl) ?_
        refine lv_iload hx hb dX4_put_63 (lv_at hl 3 rfl) ?_
        refine hx_aI C0 hU hH h dX4_put_65 (fun i_8 h => ?_)
        refine hx_sI C0 hU hH h dX4_put_66 (fun w H locs hH h => ?_)
        obtain ⟨i_9, ei_9⟩ : ∃ z, z = x6 + 1 := ⟨_, rfl⟩
        have h := h i_9 ei_9
        refine lv_iinc (k := 3) hx hb dX4_put_67 hl rfl (v := i_9) (by rw [ei_9]; rfl) (by decide) (lv' := [(6, .int i_9), (0, va_rf (some a0)), (4, va_rf (some a4)), (5, va_rf (some a5))]) rfl (fun ls hl => ?_)
        refine lv_goto hx hb dX4_put_70 (tgt := 34) (by decide) ?_
        refine W.widen (k := 1) (n := 16) (Nat.le_of_ble_eq_true rfl) (Nat.le_of_ble_eq_true rfl) ?_
        exact ih34 _ _ _ _ _ h _ _ _ hH (lv_sub hl [1, 2, 3, 0] rfl)
  refine hx_aload_n C0 dX4_put_0 rfl (lv_at hl 0 rfl) ?_
  refine hx_gI C0 hU hH (ci := 3) rfl in_X4 24 (by decide) q1095 (fun _ h9 => h9) h dX4_put_1 (fun i_1 h => ?_)
  refine lv_bipush (v := 60) hx hb dX4_put_4 (by decide) ?_
  refine lv_icmp_ne hx hb dX4_put_6 (tgt := 10) (by decide) (fun c_2 => ?_) (fun c_2 => ?_)
  · have h := h.2 c_2
    refine lv_bipush (v := 16) hx hb dX4_put_10 (by decide) ?_
    refine hx_nI C0 hU hH (Nat.le_of_ble_eq_true rfl) (Nat.le_of_ble_eq_true rfl) (Nat.le_of_ble_eq_true rfl) h dX4_put_12 (fun b_3 w H locs hH h => ?_)
    refine hx_astore C0 dX4_put_14 hl (by decide) (lv' := [(5, va_rf (some b_3)), (0, va_rf (some a0)), (1, .int x1), (2, .int x2), (3, .int x3), (4, va_rf (some a4))]) rfl (fun ls hl => ?_)
    refine hx_aload C0 dX4_put_16 (lv_at hl 0 rfl) ?_
    refine lv_iconst (v := 0) hx hb dX4_put_18 (by decide) ?_
    refine lv_iload_n hx hb dX4_put_19 rfl (lv_at hl 2 rfl) ?_
    refine hx_sI C0 hU hH h dX4_put_20 (fun w H locs hH h => ?_)
    refine hx_aload C0 dX4_put_21 (lv_at hl 0 rfl) ?_
    refine lv_iconst (v := 1) hx hb dX4_put_23 (by decide) ?_
    refine lv_iload_n hx hb dX4_put_24 rfl (lv_at hl 3 rfl) ?_
    refine hx_sI C0 hU hH h dX4_put_25 (fun w H locs hH h => ?_)
    refine hx_aload C0 dX4_put_26 (lv_at hl 0 rfl) ?_
    refine lv_iconst (v := 2) hx hb dX4_put_28 (by decide) ?_
    refine lv_iload_n hx hb dX4_put_29 rfl (lv_at hl 4 rfl) ?_
    refine hx_sI C0 hU hH h dX4_put_30 (fun w H locs hH h => ?_)
    refine lv_iconst (v := 0) hx hb dX4_put_31 (by decide) ?_
    refine lv_istore hx hb dX4_put_32 hl (by decide) (lv' := [(6, .int (0 : Int32)), (5, va_rf (some b_3)), (0, va_rf (some a0)), (1, .int x1), (2, .int x2), (3, .int x3), (4, va_rf (some a4))]) rfl (fun ls hl => ?_)
    obtain ⟨n9, h⟩ := h
    refine W.widen (k := 1) (n := 16) (Nat.le_of_ble_eq_true rfl) (Nat.le_of_ble_eq_true rfl) ?_
    exact L34 n9 _ _ _ _ _ h _ _ _ hH (lv_sub hl [2, 6, 1, 0] rfl)
  · have h := h.1 c_2
    exact hx_retv C0 hH hr hlocks h (Nat.le_of_ble_eq_true rfl) (Nat.le_of_ble_eq_true rfl) dX4_put_9
def wp_X4_rest (w : Hp) (x0 : Int64) (K : Hp → Int64 → Prop) : Prop :=
  nm (x0 - x0 / (65521 : Int64) * (65521 : Int64)) fun l_1 => nm ((l_1 + (65521 : Int64)) - (l_1 + (65521 : Int64)) / (65521 : Int64) * (65521 : Int64)) fun l_2 => K w l_2
abbrev rm_X4_rest : Room := { frames := 0, cells := 0, slots := 0, locals := 0 }
abbrev ws9_X4_rest : List Cond := ws_ yX4_rest cX4_rest 2 (Option.some Jvm.ClassFile.FieldType.long)
abbrev Q9_X4_rest (below : List Frame) (args : Array Value) (s : State) (G : hG) (K : Hp → Int64 → Prop) : State → Prop := MQ below (hx_Ql G K) args s 0 0 (hx_A G)
set_option maxHeartbeats 4000000 in
set_option maxRecDepth 100000 in
theorem wk_X4_rest (l : Launch) {G : hG} {w : Hp} {x0 : Int64} {K : Hp → Int64 → Prop} (h : wp_X4_rest w x0 K) : hx_Ml l yX4_rest (ws9_X4_rest) rm_X4_rest G w [.long x0] K 0 0 := by
  refine Met.ofW (cc := cX4_rest) (maxL := 2) (ret := (Option.some Jvm.ClassFile.FieldType.long)) (by decide +kernel) rfl ?_
  intro p e s m args below meth c s₁ B hml hv
  refine hx_in (own := RX4) (av := [.long x0]) (vl := [(0, .long x0)]) rfl rfl (Nat.le_of_ble_eq_true rfl) rfl B hml hv ?_
  intro C0 hU hH hr hlocks hin ls hl
  have hx := C0.1
  have hb := C0.2.1
  have hts := C0.2.2.2.2
  refine lv_lload_n hx hb dX4_rest_0 rfl (lv_at hl 0 rfl) ?_
  refine lv_ldc2 (v := 65521) hx hb C0.2.2.2.1 (hts _ q1234) dX4_rest_1 ?_
  refine lv_lrem hx hb dX4_rest_4 (by decide) ?_
  refine lv_topl (fun l_1 el_1 => ?_)
  have h := h l_1 el_1
  refine lv_ldc2 (v := 65521) hx hb C0.2.2.2.1 (hts _ q1234) dX4_rest_5 ?_
  refine lv_ladd hx hb dX4_rest_8 ?_
  refine lv_ldc2 (v := 65521) hx hb C0.2.2.2.1 (hts _ q1234) dX4_rest_9 ?_
  refine lv_lrem hx hb dX4_rest_12 (by decide) ?_
  refine lv_topl (fun l_2 el_2 => ?_)
  have h := h l_2 el_2
  exact hx_retl C0 hH hr hlocks h (Nat.le_of_ble_eq_true rfl) (Nat.le_of_ble_eq_true rfl) dX4_rest_13
def wp_X4_sealOf_s16 (K : Hp → Int32 → Prop)  (bk16 : Hp → Int32 → Int64 → Int64 → Nat → Int32 → Int32 → Prop) (w : Hp) (x0 : Int32) (x2 : Int64) (x4 : Int64) (a6 : Nat) (x7 : Int32) (x8 : Int32) : Prop :=
  br (x7 ≤ x8) (K w (Int64.toInt32 x2)) (aI w a6 x8 fun i_2 => wp_X4_rest w (x4 * (x0.toInt64)) fun w l_3 => wp_X4_rest w ((i_2.toInt64) + (2 : Int64)) fun w l_4 => wp_X4_rest w (x2 + (l_3 * l_4)) fun w l_5 => nm (x8 + 1) fun i_6 => bk16 w x0 l_5 l_3 a6 x7 i_6)
def wp_X4_sealOf_l16 (K : Hp → Int32 → Prop)  : ((Hp × Int32 × Int64 × Int64 × Nat × Int32 × Int32) → Prop) → (Hp × Int32 × Int64 × Int64 × Nat × Int32 × Int32) → Prop := fun bk q => wp_X4_sealOf_s16 K  (fun w x0 x2 x4 a6 x7 x8 => bk (w, x0, x2, x4, a6, x7, x8)) q.1 q.2.1 q.2.2.1 q.2.2.2.1 q.2.2.2.2.1 q.2.2.2.2.2.1 q.2.2.2.2.2.2
def wp_X4_sealOf_b16 (K : Hp → Int32 → Prop)  (w : Hp) (x0 : Int32) (x2 : Int64) (x4 : Int64) (a6 : Nat) (x7 : Int32) (x8 : Int32) : Prop := lp (wp_X4_sealOf_l16 K ) (w, x0, x2, x4, a6, x7, x8)
def wp_X4_sealOf (w : Hp) (x0 : Int32) (a1 : Nat) (K : Hp → Int32 → Prop) : Prop :=
  aN w a1 fun i_1 => wp_X4_sealOf_b16 K w x0 (0 : Int64) (1 : Int64) a1 i_1 (0 : Int32)
abbrev rm_X4_sealOf : Room := { frames := 1, cells := 0, slots := 0, locals := 21 }
abbrev ws9_X4_sealOf : List Cond := ws_ yX4_sealOf cX4_sealOf 10 (Option.some Jvm.ClassFile.FieldType.int)
abbrev Q9_X4_sealOf (below : List Frame) (args : Array Value) (s : State) (G : hG) (K : Hp → Int32 → Prop) : State → Prop := MQ below (hx_Qi G K) args s 0 0 (hx_A G)
set_option maxHeartbeats 4000000 in
set_option maxRecDepth 100000 in
theorem wk_X4_sealOf (l : Launch) {G : hG} {w : Hp} {x0 : Int32} {a1 : Nat} {K : Hp → Int32 → Prop} (h : wp_X4_sealOf w x0 a1 K) : hx_Mi l yX4_sealOf (ws9_X4_sealOf) rm_X4_sealOf G w [.int x0, .ref a1] K 0 0 := by
  refine Met.ofW (cc := cX4_sealOf) (maxL := 10) (ret := (Option.some Jvm.ClassFile.FieldType.int)) (by decide +kernel) rfl ?_
  intro p e s m args below meth c s₁ B hml hv
  refine hx_in (own := RX4) (av := [.int x0, .ref a1]) (vl := [(0, .int x0), (1, va_rf (some a1))]) rfl rfl (Nat.le_of_ble_eq_true rfl) rfl B hml hv ?_
  intro C0 hU hH hr hlocks hin ls hl
  have hx := C0.1
  have hb := C0.2.1
  have hts := C0.2.2.2.2
  have L16 : ∀ (n16 : Nat) (w : Hp) (x0 : Int32) (x2 : Int64) (x4 : Int64) (a6 : Nat) (x7 : Int32) (x8 : Int32), lpN (wp_X4_sealOf_l16 K ) n16 (w, x0, x2, x4, a6, x7, x8) → ∀ (H : Heap) (locs : List Loc) (ls : Array Slot), hx_H G w s H locs → lv_has ls 10 [(0, .int x0), (2, .long x2), (4, .long x4), (6, va_rf (some a6)), (7, .int x7), (8, .int x8)] → W p l e (headSpec (ws9_X4_sealOf) rm_X4_sealOf).room s m args below meth c H locs (0) (0) (Q9_X4_sealOf below args s G K) (F0 m 16 ls []) := by
    intro n16
    induction n16 with
    | zero => intro w x0 x2 x4 a6 x7 x8 h; exact h.elim
    | succ n16 ih16 =>
      intro w x0 x2 x4 a6 x7 x8 h H locs ls hH hl
      have h : wp_X4_sealOf_s16 K  (fun w x0 x2 x4 a6 x7 x8 => lpN (wp_X4_sealOf_l16 K ) n16 (w, x0, x2, x4, a6, x7, x8)) w x0 x2 x4 a6 x7 x8 := h
      refine lv_iload hx hb dX4_sealOf_16 (lv_at hl 5 rfl) ?_
      refine lv_iload hx hb dX4_sealOf_18 (lv_at hl 4 rfl) ?_
      refine lv_icmp_ge hx hb dX4_sealOf_20 (tgt := 65) (by decide) (fun c_1 => ?_) (fun c_1 => ?_)
      · have h := h.1 c_1
        refine lv_lload_n hx hb dX4_sealOf_65 rfl (lv_at hl 1 rfl) ?_
        refine lv_l2i hx hb dX4_sealOf_66 rfl ?_
        exact hx_reti C0 hH hr hlocks h (Nat.le_of_ble_eq_true rfl) (Nat.le_of_ble_eq_true rfl) dX4_sealOf_67
      · have h := h.2 c_1
        refine hx_aload C0 dX4_sealOf_23 (lv_at hl 3 rfl) ?_
        refine lv_iload hx hb dX4_sealOf_25 (lv_at hl 5 rfl) ?_
        refine hx_aI C0 hU hH h dX4_sealOf_27 (fun i_2 h => ?_)
        refine lv_istore hx hb dX4_sealOf_28 hl (by decide) (lv' := [(9, .int i_2), (0, .int x0), (2, .long x2), (4, .long x4), (6, va_rf (some a6)), (7, .int x7), (8, .int x8)]) rfl (fun ls hl => ?_)
        refine lv_lload hx hb dX4_sealOf_30 (lv_at hl 3 rfl) ?_
        refine lv_iload_n hx hb dX4_sealOf_32 rfl (lv_at hl 1 rfl) ?_
        refine lv_i2l hx hb dX4_sealOf_33 rfl ?_
        refine lv_lmul hx hb dX4_sealOf_34 ?_
        refine hx_Sl C0 hU hH (As := [.long (x4 * (x0.toInt64))]) (wk_X4_rest l h) (va_cwS 1 hts (lw_S q1231 q1232 q71 q1233) rfl rfl rfl (by decide +kernel) ⟨Nat.le_of_ble_eq_true rfl, Nat.le_of_ble_eq_true rfl⟩) rfl hl.1 rfl (Nat.le_of_ble_eq_true rfl) dX4_sealOf_35 ⟨Nat.le_of_ble_eq_true rfl, Nat.le_of_ble_eq_true rfl⟩ (fun l_3 w H locs hH h => ?_)
        refine lv_lstore hx hb dX4_sealOf_38 hl (by decide) (lv' := [(4, .long l_3), (9, .int i_2), (0, .int x0), (2, .long x2), (6, va_rf (some a6)), (7, .int x7), (8, .int x8)]) rfl (fun ls hl => ?_)
        refine lv_lload_n hx hb dX4_sealOf_40 rfl (lv_at hl 3 rfl) ?_
        refine lv_lload hx hb dX4_sealOf_41 (lv_at hl 0 rfl) ?_
        refine lv_iload hx hb dX4_sealOf_43 (lv_at hl 1 rfl) ?_
        refine lv_i2l hx hb dX4_sealOf_45 rfl ?_
        refine lv_ldc2 (v := 2) hx hb C0.2.2.2.1 (hts _ q1178) dX4_sealOf_46 ?_
        refine lv_ladd hx hb dX4_sealOf_49 ?_
        refine hx_Sl C0 hU hH (As := [.long ((i_2.toInt64) + (2 : Int64))]) (wk_X4_rest l h) (va_cwS 1 hts (lw_S q1231 q1232 q71 q1233) rfl rfl rfl (by decide +kernel) ⟨Nat.le_of_ble_eq_true rfl, Nat.le_of_ble_eq_true rfl⟩) rfl hl.1 rfl (Nat.le_of_ble_eq_true rfl) dX4_sealOf_50 ⟨Nat.le_of_ble_eq_true rfl, Nat.le_of_ble_eq_true rfl⟩ (fun l_4 w H locs hH h => ?_)
        refine lv_lmul hx hb dX4_sealOf_53 ?_
        refine lv_ladd hx hb dX4_sealOf_54 ?_
        refine hx_Sl C0 hU hH (As := [.long (x2 + (l_3 * l_4))]) (wk_X4_rest l h) (va_cwS 1 hts (lw_S q1231 q1232 q71 q1233) rfl rfl rfl (by decide +kernel) ⟨Nat.le_of_ble_eq_true rfl, Nat.le_of_ble_eq_true rfl⟩) rfl hl.1 rfl (Nat.le_of_ble_eq_true rfl) dX4_sealOf_55 ⟨Nat.le_of_ble_eq_true rfl, Nat.le_of_ble_eq_true rfl⟩ (fun l_5 w H locs hH h => ?_)
        refine lv_lstore_n hx hb dX4_sealOf_58 rfl hl (by decide) (lv' := [(2, .long l_5), (4, .long l_3), (9, .int i_2), (0, .int x0), (6, va_rf (some a6)), (7, .int x7), (8, .int x8)]) rfl (fun ls hl => ?_)
        obtain ⟨i_6, ei_6⟩ : ∃ z, z = x8 + 1 := ⟨_, rfl⟩
        have h := h i_6 ei_6
        refine lv_iinc (k := 6) hx hb dX4_sealOf_59 hl rfl (v := i_6) (by rw [ei_6]; rfl) (by decide) (lv' := [(8, .int i_6), (2, .long l_5), (4, .long l_3), (9, .int i_2), (0, .int x0), (6, va_rf (some a6)), (7, .int x7)]) rfl (fun ls hl => ?_)
        refine lv_goto hx hb dX4_sealOf_62 (tgt := 16) (by decide) ?_
        refine W.widen (k := 0) (n := 0) (Nat.le_of_ble_eq_true rfl) (Nat.le_of_ble_eq_true rfl) ?_
        exact ih16 _ _ _ _ _ _ _ h _ _ _ hH (lv_sub hl [4, 1, 2, 5, 6, 0] rfl)
  refine lv_lconst (v := 0) hx hb dX4_sealOf_0 (by decide) ?_
  refine lv_lstore_n hx hb dX4_sealOf_1 rfl hl (by decide) (lv' := [(2, .long (0 : Int64)), (0, .int x0), (1, va_rf (some a1))]) rfl (fun ls hl => ?_)
  refine lv_lconst (v := 1) hx hb dX4_sealOf_2 (by decide) ?_
  refine lv_lstore hx hb dX4_sealOf_3 hl (by decide) (lv' := [(4, .long (1 : Int64)), (2, .long (0 : Int64)), (0, .int x0), (1, va_rf (some a1))]) rfl (fun ls hl => ?_)
  refine hx_aload_n C0 dX4_sealOf_5 rfl (lv_at hl 3 rfl) ?_
  refine hx_astore C0 dX4_sealOf_6 hl (by decide) (lv' := [(6, va_rf (some a1)), (4, .long (1 : Int64)), (2, .long (0 : Int64)), (0, .int x0), (1, va_rf (some a1))]) rfl (fun ls hl => ?_)
  refine hx_aload C0 dX4_sealOf_8 (lv_at hl 0 rfl) ?_
  refine hx_aN C0 hU hH h dX4_sealOf_10 (fun i_1 h => ?_)
  refine lv_istore hx hb dX4_sealOf_11 hl (by decide) (lv' := [(7, .int i_1), (6, va_rf (some a1)), (4, .long (1 : Int64)), (2, .long (0 : Int64)), (0, .int x0), (1, va_rf (some a1))]) rfl (fun ls hl => ?_)
  refine lv_iconst (v := 0) hx hb dX4_sealOf_13 (by decide) ?_
  refine lv_istore hx hb dX4_sealOf_14 hl (by decide) (lv' := [(8, .int (0 : Int32)), (7, .int i_1), (6, va_rf (some a1)), (4, .long (1 : Int64)), (2, .long (0 : Int64)), (0, .int x0), (1, va_rf (some a1))]) rfl (fun ls hl => ?_)
  obtain ⟨n9, h⟩ := h
  refine W.widen (k := 0) (n := 0) (Nat.le_of_ble_eq_true rfl) (Nat.le_of_ble_eq_true rfl) ?_
  exact L16 n9 _ _ _ _ _ _ _ h _ _ _ hH (lv_sub hl [5, 4, 3, 2, 1, 0] rfl)
def wp_X4_data (w : Hp) (a0 : Nat) (x1 : Int32) (x2 : Int32) (x3 : Int32) (x4 : Int32) (x5 : Int32) (K : Hp → Prop) : Prop :=
  gR w a0 3 21 fun r_1 => dR r_1 fun b_2 => aR w b_2 x1 fun r_3 => dR r_3 fun b_4 => aR w b_4 x2 fun r_5 => dR r_5 fun b_6 => aR w b_6 (1 : Int32) fun r_7 => dR r_7 fun b_8 => aI w b_8 (5 : Int32) fun i_9 => gR w a0 3 4 fun r_10 => dR r_10 fun b_11 => aI w b_11 x1 fun i_12 => gR w a0 3 10 fun r_13 => dR r_13 fun b_14 => aR w b_14 x1 fun r_15 => dR r_15 fun b_16 => aI w b_16 x2 fun i_17 => nI_ w (6 : Int32) 6 fun w b_18 => aI w b_8 (1 : Int32) fun i_19 => sI w b_18 (0 : Int32) i_19 fun w => sI w b_18 (1 : Int32) i_9 fun w => sI w b_18 (2 : Int32) x3 fun w => sI w b_18 (3 : Int32) x4 fun w => sI w b_18 (4 : Int32) x5 fun w => aI w b_8 (3 : Int32) fun i_20 => nI_ w (6 : Int32) 6 fun w b_21 => sI w b_21 (0 : Int32) (4 : Int32) fun w => aI w b_8 (1 : Int32) fun i_22 => sI w b_21 (1 : Int32) i_22 fun w => sI w b_21 (2 : Int32) i_9 fun w => sI w b_21 (3 : Int32) x3 fun w => sI w b_21 (4 : Int32) x4 fun w => sI w b_21 (5 : Int32) x5 fun w => wp_X4_sealOf w i_20 b_21 fun w i_23 => sI w b_18 (5 : Int32) i_23 fun w => isO w a0 3 <| wp_X4_put w a0 i_12 i_17 (4 : Int32) b_18 fun w => sI w b_8 (5 : Int32) (i_9 + (1 : Int32)) fun w => K w
abbrev rm_X4_data : Room := { frames := 2, cells := 3, slots := 28, locals := 50 }
abbrev ws9_X4_data : List Cond := ws_ yX4_data cX4_data 8 none
abbrev Q9_X4_data (below : List Frame) (args : Array Value) (s : State) (G : hG) (K : Hp → Prop) : State → Prop := MQ below (hx_Qv G K) args s 3 28 (hx_A G)
set_option maxHeartbeats 4000000 in
set_option maxRecDepth 100000 in
theorem wk_X4_data (l : Launch) {G : hG} {w : Hp} {a0 : Nat} {x1 : Int32} {x2 : Int32} {x3 : Int32} {x4 : Int32} {x5 : Int32} {K : Hp → Prop} (h : wp_X4_data w a0 x1 x2 x3 x4 x5 K) : hx_Mv l yX4_data (ws9_X4_data) rm_X4_data G w [.ref a0, .int x1, .int x2, .int x3, .int x4, .int x5] K 3 28 := by
  refine Met.ofW (cc := cX4_data) (maxL := 8) (ret := none) (by decide +kernel) rfl ?_
  intro p e s m args below meth c s₁ B hml hv
  refine hx_in (own := RX4) (av := [.ref a0, .int x1, .int x2, .int x3, .int x4, .int x5]) (vl := [(0, va_rf (some a0)), (1, .int x1), (2, .int x2), (3, .int x3), (4, .int x4), (5, .int x5)]) rfl rfl (Nat.le_of_ble_eq_true rfl) rfl B hml hv ?_
  intro C0 hU hH hr hlocks hin ls hl
  have hx := C0.1
  have hb := C0.2.1
  have hts := C0.2.2.2.2
  refine hx_aload_n C0 dX4_data_0 rfl (lv_at hl 0 rfl) ?_
  refine hx_gR C0 hU hH (ci := 3) rfl in_X4 21 (by decide) q1092 (fun _ h9 => h9) h dX4_data_1 (fun r_1 h => ?_)
  refine lv_iload_n hx hb dX4_data_4 rfl (lv_at hl 1 rfl) ?_
  obtain ⟨b_2, rfl, h9⟩ := h
  have h := h9
  clear h9
  refine hx_aR C0 hU hH h dX4_data_5 (fun r_3 h => ?_)
  refine lv_iload_n hx hb dX4_data_6 rfl (lv_at hl 2 rfl) ?_
  obtain ⟨b_4, rfl, h9⟩ := h
  have h := h9
  clear h9
  refine hx_aR C0 hU hH h dX4_data_7 (fun r_5 h => ?_)
  refine lv_iconst (v := 1) hx hb dX4_data_8 (by decide) ?_
  obtain ⟨b_6, rfl, h9⟩ := h
  have h := h9
  clear h9
  refine hx_aR C0 hU hH h dX4_data_9 (fun r_7 h => ?_)
  refine hx_astore C0 dX4_data_10 hl (by decide) (lv' := [(6, va_rf r_7), (0, va_rf (some a0)), (1, .int x1), (2, .int x2), (3, .int x3), (4, .int x4), (5, .int x5)]) rfl (fun ls hl => ?_)
  refine hx_aload C0 dX4_data_12 (lv_at hl 0 rfl) ?_
  refine lv_iconst (v := 5) hx hb dX4_data_14 (by decide) ?_
  obtain ⟨b_8, rfl, h9⟩ := h
  have h := h9
  clear h9
  refine hx_aI C0 hU hH h dX4_data_15 (fun i_9 h => ?_)
  refine lv_istore hx hb dX4_data_16 hl (by decide) (lv' := [(7, .int i_9), (6, va_rf (some b_8)), (0, va_rf (some a0)), (1, .int x1), (2, .int x2), (3, .int x3), (4, .int x4), (5, .int x5)]) rfl (fun ls hl => ?_)
  refine hx_aload_n C0 dX4_data_18 rfl (lv_at hl 2 rfl) ?_
  refine hx_aload_n C0 dX4_data_19 rfl (lv_at hl 2 rfl) ?_
  refine hx_gR C0 hU hH (ci := 3) rfl in_X4 4 (by decide) q1075 (fun _ h9 => h9) h dX4_data_20 (fun r_10 h => ?_)
  refine lv_iload_n hx hb dX4_data_23 rfl (lv_at hl 3 rfl) ?_
  obtain ⟨b_11, rfl, h9⟩ := h
  have h := h9
  clear h9
  refine hx_aI C0 hU hH h dX4_data_24 (fun i_12 h => ?_)
  refine hx_aload_n C0 dX4_data_25 rfl (lv_at hl 2 rfl) ?_
  refine hx_gR C0 hU hH (ci := 3) rfl in_X4 10 (by decide) q1081 (fun _ h9 => h9) h dX4_data_26 (fun r_13 h => ?_)
  refine lv_iload_n hx hb dX4_data_29 rfl (lv_at hl 3 rfl) ?_
  obtain ⟨b_14, rfl, h9⟩ := h
  have h := h9
  clear h9
  refine hx_aR C0 hU hH h dX4_data_30 (fun r_15 h => ?_)
  refine lv_iload_n hx hb dX4_data_31 rfl (lv_at hl 4 rfl) ?_
  obtain ⟨b_16, rfl, h9⟩ := h
  have h := h9
  clear h9
  refine hx_aI C0 hU hH h dX4_data_32 (fun i_17 h => ?_)
  refine lv_iconst (v := 4) hx hb dX4_data_33 (by decide) ?_
  refine lv_bipush (v := 6) hx hb dX4_data_34 (by decide) ?_
  refine hx_nI C0 hU hH (Nat.le_of_ble_eq_true rfl) (Nat.le_of_ble_eq_true rfl) (Nat.le_of_ble_eq_true rfl) h dX4_data_36 (fun b_18 w H locs hH h => ?_)
  refine lv_dup hx hb dX4_data_38 rfl ?_
  refine lv_iconst (v := 0) hx hb dX4_data_39 (by decide) ?_
  refine hx_aload C0 dX4_data_40 (lv_at hl 1 rfl) ?_
  refine lv_iconst (v := 1) hx hb dX4_data_42 (by decide) ?_
  refine hx_aI C0 hU hH h dX4_data_43 (fun i_19 h => ?_)
  refine hx_sI C0 hU hH h dX4_data_44 (fun w H locs hH h => ?_)
  refine lv_dup hx hb dX4_data_45 rfl ?_
  refine lv_iconst (v := 1) hx hb dX4_data_46 (by decide) ?_
  refine lv_iload hx hb dX4_data_47 (lv_at hl 0 rfl) ?_
  refine hx_sI C0 hU hH h dX4_data_49 (fun w H locs hH h => ?_)
  refine lv_dup hx hb dX4_data_50 rfl ?_
  refine lv_iconst (v := 2) hx hb dX4_data_51 (by decide) ?_
  refine lv_iload_n hx hb dX4_data_52 rfl (lv_at hl 5 rfl) ?_
  refine hx_sI C0 hU hH h dX4_data_53 (fun w H locs hH h => ?_)
  refine lv_dup hx hb dX4_data_54 rfl ?_
  refine lv_iconst (v := 3) hx hb dX4_data_55 (by decide) ?_
  refine lv_iload hx hb dX4_data_56 (lv_at hl 6 rfl) ?_
  refine hx_sI C0 hU hH h dX4_data_58 (fun w H locs hH h => ?_)
  refine lv_dup hx hb dX4_data_59 rfl ?_
  refine lv_iconst (v := 4) hx hb dX4_data_60 (by decide) ?_
  refine lv_iload hx hb dX4_data_61 (lv_at hl 7 rfl) ?_
  refine hx_sI C0 hU hH h dX4_data_63 (fun w H locs hH h => ?_)
  refine lv_dup hx hb dX4_data_64 rfl ?_
  refine lv_iconst (v := 5) hx hb dX4_data_65 (by decide) ?_
  refine hx_aload C0 dX4_data_66 (lv_at hl 1 rfl) ?_
  refine lv_iconst (v := 3) hx hb dX4_data_68 (by decide) ?_
  refine hx_aI C0 hU hH h dX4_data_69 (fun i_20 h => ?_)
  refine lv_bipush (v := 6) hx hb dX4_data_70 (by decide) ?_
  refine hx_nI C0 hU hH (Nat.le_of_ble_eq_true rfl) (Nat.le_of_ble_eq_true rfl) (Nat.le_of_ble_eq_true rfl) h dX4_data_72 (fun b_21 w H locs hH h => ?_)
  refine lv_dup hx hb dX4_data_74 rfl ?_
  refine lv_iconst (v := 0) hx hb dX4_data_75 (by decide) ?_
  refine lv_iconst (v := 4) hx hb dX4_data_76 (by decide) ?_
  refine hx_sI C0 hU hH h dX4_data_77 (fun w H locs hH h => ?_)
  refine lv_dup hx hb dX4_data_78 rfl ?_
  refine lv_iconst (v := 1) hx hb dX4_data_79 (by decide) ?_
  refine hx_aload C0 dX4_data_80 (lv_at hl 1 rfl) ?_
  refine lv_iconst (v := 1) hx hb dX4_data_82 (by decide) ?_
  refine hx_aI C0 hU hH h dX4_data_83 (fun i_22 h => ?_)
  refine hx_sI C0 hU hH h dX4_data_84 (fun w H locs hH h => ?_)
  refine lv_dup hx hb dX4_data_85 rfl ?_
  refine lv_iconst (v := 2) hx hb dX4_data_86 (by decide) ?_
  refine lv_iload hx hb dX4_data_87 (lv_at hl 0 rfl) ?_
  refine hx_sI C0 hU hH h dX4_data_89 (fun w H locs hH h => ?_)
  refine lv_dup hx hb dX4_data_90 rfl ?_
  refine lv_iconst (v := 3) hx hb dX4_data_91 (by decide) ?_
  refine lv_iload_n hx hb dX4_data_92 rfl (lv_at hl 5 rfl) ?_
  refine hx_sI C0 hU hH h dX4_data_93 (fun w H locs hH h => ?_)
  refine lv_dup hx hb dX4_data_94 rfl ?_
  refine lv_iconst (v := 4) hx hb dX4_data_95 (by decide) ?_
  refine lv_iload hx hb dX4_data_96 (lv_at hl 6 rfl) ?_
  refine hx_sI C0 hU hH h dX4_data_98 (fun w H locs hH h => ?_)
  refine lv_dup hx hb dX4_data_99 rfl ?_
  refine lv_iconst (v := 5) hx hb dX4_data_100 (by decide) ?_
  refine lv_iload hx hb dX4_data_101 (lv_at hl 7 rfl) ?_
  refine hx_sI C0 hU hH h dX4_data_103 (fun w H locs hH h => ?_)
  refine hx_Si C0 hU hH (As := [.int i_20, va_rf (some b_21)]) (wk_X4_sealOf l h) (va_cwS 2 hts (lw_S q1228 q1229 q71 q1230) rfl rfl rfl (by decide +kernel) ⟨Nat.le_of_ble_eq_true rfl, Nat.le_of_ble_eq_true rfl⟩) rfl hl.1 rfl (Nat.le_of_ble_eq_true rfl) dX4_data_104 ⟨Nat.le_of_ble_eq_true rfl, Nat.le_of_ble_eq_true rfl⟩ (fun i_23 w H locs hH h => ?_)
  refine hx_sI C0 hU hH h dX4_data_107 (fun w H locs hH h => ?_)
  obtain ⟨ho, h⟩ := h
  refine hx_Vv C0 hU hH (As := [.int i_12, .int i_17, .int (4 : Int32), va_rf (some b_18)]) (wk_X4_put l h) (cwV 4 hts (lw_V q1235 q1237 qs41 q71 q1238) rfl rfl rfl (by decide +kernel) ⟨Nat.le_of_ble_eq_true rfl, Nat.le_of_ble_eq_true rfl⟩) (hx_recv hU hH (ci := 3) rfl ho) rfl hl.1 rfl (Nat.le_of_ble_eq_true rfl) dX4_data_108 ⟨Nat.le_of_ble_eq_true rfl, Nat.le_of_ble_eq_true rfl⟩ (fun w H locs hH h => ?_)
  refine hx_aload C0 dX4_data_111 (lv_at hl 1 rfl) ?_
  refine lv_iconst (v := 5) hx hb dX4_data_113 (by decide) ?_
  refine lv_iload hx hb dX4_data_114 (lv_at hl 0 rfl) ?_
  refine lv_iconst (v := 1) hx hb dX4_data_116 (by decide) ?_
  refine lv_iadd hx hb dX4_data_117 ?_
  refine hx_sI C0 hU hH h dX4_data_118 (fun w H locs hH h => ?_)
  exact hx_retv C0 hH hr hlocks h (Nat.le_of_ble_eq_true rfl) (Nat.le_of_ble_eq_true rfl) dX4_data_119
def wp_X4_given_b66 (K : Hp → Int32 → Prop) (bk8 : Hp → Nat → Int32 → Int32 → Int32 → Int32 → Int32 → Prop) (w : Hp) (a0 : Nat) (x1 : Int32) (x2 : Int32) (x3 : Int32) (x4 : Int32) (x5 : Int32) : Prop :=
  nm (x5 + 1) fun i_1 => bk8 w a0 x1 x2 x3 x4 i_1
def wp_X4_given_s8 (K : Hp → Int32 → Prop)  (bk8 : Hp → Nat → Int32 → Int32 → Int32 → Int32 → Int32 → Prop) (w : Hp) (a0 : Nat) (x1 : Int32) (x2 : Int32) (x3 : Int32) (x4 : Int32) (x5 : Int32) : Prop :=
  gR w a0 3 5 fun r_1 => dR r_1 fun b_2 => aI w b_2 x1 fun i_3 => br (i_3 ≤ x5) (K w x4) (gR w a0 3 9 fun r_5 => dR r_5 fun b_6 => aR w b_6 x1 fun r_7 => dR r_7 fun b_8 => aR w b_8 x5 fun r_9 => dR r_9 fun b_10 => aI w b_10 (1 : Int32) fun i_11 => br (i_11 ≤ x3) (wp_X4_given_b66 K bk8 w a0 x1 x2 x3 x4 x5) (aI w b_10 (0 : Int32) fun i_13 => aI w b_10 (1 : Int32) fun i_14 => br (((x2 ^^^ i_13) >>> (((8 : Int32) - i_14) &&& 31)) = 0) (aI w b_10 (1 : Int32) fun i_16 => aI w b_10 (2 : Int32) fun i_17 => wp_X4_given_b66 K bk8 w a0 x1 x2 i_16 i_17 x5) (wp_X4_given_b66 K bk8 w a0 x1 x2 x3 x4 x5)))
def wp_X4_given_l8 (K : Hp → Int32 → Prop)  : ((Hp × Nat × Int32 × Int32 × Int32 × Int32 × Int32) → Prop) → (Hp × Nat × Int32 × Int32 × Int32 × Int32 × Int32) → Prop := fun bk q => wp_X4_given_s8 K  (fun w a0 x1 x2 x3 x4 x5 => bk (w, a0, x1, x2, x3, x4, x5)) q.1 q.2.1 q.2.2.1 q.2.2.2.1 q.2.2.2.2.1 q.2.2.2.2.2.1 q.2.2.2.2.2.2
def wp_X4_given_b8 (K : Hp → Int32 → Prop)  (w : Hp) (a0 : Nat) (x1 : Int32) (x2 : Int32) (x3 : Int32) (x4 : Int32) (x5 : Int32) : Prop := lp (wp_X4_given_l8 K ) (w, a0, x1, x2, x3, x4, x5)
def wp_X4_given (w : Hp) (a0 : Nat) (x1 : Int32) (x2 : Int32) (K : Hp → Int32 → Prop) : Prop :=
  wp_X4_given_b8 K w a0 x1 x2 (-1 : Int32) (-1 : Int32) (0 : Int32)
abbrev rm_X4_given : Room := { frames := 0, cells := 0, slots := 0, locals := 0 }
abbrev ws9_X4_given : List Cond := ws_ yX4_given cX4_given 7 (Option.some Jvm.ClassFile.FieldType.int)
abbrev Q9_X4_given (below : List Frame) (args : Array Value) (s : State) (G : hG) (K : Hp → Int32 → Prop) : State → Prop := MQ below (hx_Qi G K) args s 0 0 (hx_A G)
set_option maxHeartbeats 4000000 in
set_option maxRecDepth 100000 in
theorem wk_X4_given (l : Launch) {G : hG} {w : Hp} {a0 : Nat} {x1 : Int32} {x2 : Int32} {K : Hp → Int32 → Prop} (h : wp_X4_given w a0 x1 x2 K) : hx_Mi l yX4_given (ws9_X4_given) rm_X4_given G w [.ref a0, .int x1, .int x2] K 0 0 := by
  refine Met.ofW (cc := cX4_given) (maxL := 7) (ret := (Option.some Jvm.ClassFile.FieldType.int)) (by decide +kernel) rfl ?_
  intro p e s m args below meth c s₁ B hml hv
  refine hx_in (own := RX4) (av := [.ref a0, .int x1, .int x2]) (vl := [(0, va_rf (some a0)), (1, .int x1), (2, .int x2)]) rfl rfl (Nat.le_of_ble_eq_true rfl) rfl B hml hv ?_
  intro C0 hU hH hr hlocks hin ls hl
  have hx := C0.1
  have hb := C0.2.1
  have hts := C0.2.2.2.2
  have L8 : ∀ (n8 : Nat) (w : Hp) (a0 : Nat) (x1 : Int32) (x2 : Int32) (x3 : Int32) (x4 : Int32) (x5 : Int32), lpN (wp_X4_given_l8 K ) n8 (w, a0, x1, x2, x3, x4, x5) → ∀ (H : Heap) (locs : List Loc) (ls : Array Slot), hx_H G w s H locs → lv_has ls 7 [(0, va_rf (some a0)), (1, .int x1), (2, .int x2), (3, .int x3), (4, .int x4), (5, .int x5)] → W p l e (headSpec (ws9_X4_given) rm_X4_given).room s m args below meth c H locs (0) (0) (Q9_X4_given below args s G K) (F0 m 8 ls []) := by
    intro n8
    induction n8 with
    | zero => intro w a0 x1 x2 x3 x4 x5 h; exact h.elim
    | succ n8 ih8 =>
      intro w a0 x1 x2 x3 x4 x5 h H locs ls hH hl
      have h : wp_X4_given_s8 K  (fun w a0 x1 x2 x3 x4 x5 => lpN (wp_X4_given_l8 K ) n8 (w, a0, x1, x2, x3, x4, x5)) w a0 x1 x2 x3 x4 x5 := h
      have b66 : ∀ (w : Hp) (a0 : Nat) (x1 : Int32) (x2 : Int32) (x3 : Int32) (x4 : Int32) (x5 : Int32), wp_X4_given_b66 K (fun w a0 x1 x2 x3 x4 x5 => lpN (wp_X4_given_l8 K ) n8 (w, a0, x1, x2, x3, x4, x5)) w a0 x1 x2 x3 x4 x5 → ∀ (H : Heap) (locs : List Loc) (ls : Array Slot), hx_H G w s H locs → lv_has ls 7 [(0, va_rf (some a0)), (1, .int x1), (2, .int x2), (3, .int x3), (4, .int x4), (5, .int x5)] → W p l e (headSpec (ws9_X4_given) rm_X4_given).room s m args below meth c H locs (0) (0) (Q9_X4_given below args s G K) (F0 m 66 ls []) := by
        intro w a0 x1 x2 x3 x4 x5 h H locs ls hH hl
        obtain ⟨i_1, ei_1⟩ : ∃ z, z = x5 + 1 := ⟨_, rfl⟩
        have h := h i_1 ei_1
        refine lv_iinc (k := 5) hx hb dX4_given_66 hl rfl (v := i_1) (by rw [ei_1]; rfl) (by decide) (lv' := [(5, .int i_1), (0, va_rf (some a0)), (1, .int x1), (2, .int x2), (3, .int x3), (4, .int x4)]) rfl (fun ls hl => ?_)
        refine lv_goto hx hb dX4_given_69 (tgt := 8) (by decide) ?_
        refine W.widen (k := 0) (n := 0) (Nat.le_of_ble_eq_true rfl) (Nat.le_of_ble_eq_true rfl) ?_
        exact ih8 _ _ _ _ _ _ _ h _ _ _ hH (lv_sub hl [1, 2, 3, 4, 5, 0] rfl)
      refine lv_iload hx hb dX4_given_8 (lv_at hl 5 rfl) ?_
      refine hx_aload_n C0 dX4_given_10 rfl (lv_at hl 0 rfl) ?_
      refine hx_gR C0 hU hH (ci := 3) rfl in_X4 5 (by decide) q1076 (fun _ h9 => h9) h dX4_given_11 (fun r_1 h => ?_)
      refine lv_iload_n hx hb dX4_given_14 rfl (lv_at hl 1 rfl) ?_
      obtain ⟨b_2, rfl, h9⟩ := h
      have h := h9
      clear h9
      refine hx_aI C0 hU hH h dX4_given_15 (fun i_3 h => ?_)
      refine lv_icmp_ge hx hb dX4_given_16 (tgt := 72) (by decide) (fun c_4 => ?_) (fun c_4 => ?_)
      · have h := h.1 c_4
        refine lv_iload hx hb dX4_given_72 (lv_at hl 4 rfl) ?_
        exact hx_reti C0 hH hr hlocks h (Nat.le_of_ble_eq_true rfl) (Nat.le_of_ble_eq_true rfl) dX4_given_74
      · have h := h.2 c_4
        refine hx_aload_n C0 dX4_given_19 rfl (lv_at hl 0 rfl) ?_
        refine hx_gR C0 hU hH (ci := 3) rfl in_X4 9 (by decide) q1080 (fun _ h9 => h9) h dX4_given_20 (fun r_5 h => ?_)
        refine lv_iload_n hx hb dX4_given_23 rfl (lv_at hl 1 rfl) ?_
        obtain ⟨b_6, rfl, h9⟩ := h
        have h := h9
        clear h9
        refine hx_aR C0 hU hH h dX4_given_24 (fun r_7 h => ?_)
        refine lv_iload hx hb dX4_given_25 (lv_at hl 5 rfl) ?_
        obtain ⟨b_8, rfl, h9⟩ := h
        have h := h9
        clear h9
        refine hx_aR C0 hU hH h dX4_given_27 (fun r_9 h => ?_)
        refine hx_astore C0 dX4_given_28 hl (by decide) (lv' := [(6, va_rf r_9), (0, va_rf (some a0)), (1, .int x1), (2, .int x2), (3, .int x3), (4, .int x4), (5, .int x5)]) rfl (fun ls hl => ?_)
        refine hx_aload C0 dX4_given_30 (lv_at hl 0 rfl) ?_
        refine lv_iconst (v := 1) hx hb dX4_given_32 (by decide) ?_
        obtain ⟨b_10, rfl, h9⟩ := h
        have h := h9
        clear h9
        refine hx_aI C0 hU hH h dX4_given_33 (fun i_11 h => ?_)
        refine lv_iload_n hx hb dX4_given_34 rfl (lv_at hl 4 rfl) ?_
        refine lv_icmp_le hx hb dX4_given_35 (tgt := 66) (by decide) (fun c_12 => ?_) (fun c_12 => ?_)
        · have h := h.1 c_12
          refine W.widen (k := 0) (n := 0) (Nat.le_of_ble_eq_true rfl) (Nat.le_of_ble_eq_true rfl) ?_
          exact b66 _ _ _ _ _ _ _ h _ _ _ hH (lv_sub hl [1, 2, 3, 4, 5, 6] rfl)
        · have h := h.2 c_12
          refine lv_iload_n hx hb dX4_given_38 rfl (lv_at hl 3 rfl) ?_
          refine hx_aload C0 dX4_given_39 (lv_at hl 0 rfl) ?_
          refine lv_iconst (v := 0) hx hb dX4_given_41 (by decide) ?_
          refine hx_aI C0 hU hH h dX4_given_42 (fun i_13 h => ?_)
          refine lv_ixor hx hb dX4_given_43 ?_
          refine lv_bipush (v := 8) hx hb dX4_given_44 (by decide) ?_
          refine hx_aload C0 dX4_given_46 (lv_at hl 0 rfl) ?_
          refine lv_iconst (v := 1) hx hb dX4_given_48 (by decide) ?_
          refine hx_aI C0 hU hH h dX4_given_49 (fun i_14 h => ?_)
          refine lv_isub hx hb dX4_given_50 ?_
          refine lv_ishr hx hb dX4_given_51 ?_
          refine lv_if_ne hx hb dX4_given_52 (tgt := 66) (by decide) (fun c_15 => ?_) (fun c_15 => ?_)
          · have h := h.2 c_15
            refine W.widen (k := 0) (n := 0) (Nat.le_of_ble_eq_true rfl) (Nat.le_of_ble_eq_true rfl) ?_
            exact b66 _ _ _ _ _ _ _ h _ _ _ hH (lv_sub hl [1, 2, 3, 4, 5, 6] rfl)
          · have h := h.1 c_15
            refine hx_aload C0 dX4_given_55 (lv_at hl 0 rfl) ?_
            refine lv_iconst (v := 1) hx hb dX4_given_57 (by decide) ?_
            refine hx_aI C0 hU hH h dX4_given_58 (fun i_16 h => ?_)
            refine lv_istore_n hx hb dX4_given_59 rfl hl (by decide) (lv' := [(3, .int i_16), (6, va_rf (some b_10)), (0, va_rf (some a0)), (1, .int x1), (2, .int x2), (4, .int x4), (5, .int x5)]) rfl (fun ls hl => ?_)
            refine hx_aload C0 dX4_given_60 (lv_at hl 1 rfl) ?_
            refine lv_iconst (v := 2) hx hb dX4_given_62 (by decide) ?_
            refine hx_aI C0 hU hH h dX4_given_63 (fun i_17 h => ?_)
            refine lv_istore hx hb dX4_given_64 hl (by decide) (lv' := [(4, .int i_17), (3, .int i_16), (6, va_rf (some b_10)), (0, va_rf (some a0)), (1, .int x1), (2, .int x2), (5, .int x5)]) rfl (fun ls hl => ?_)
            refine W.widen (k := 0) (n := 0) (Nat.le_of_ble_eq_true rfl) (Nat.le_of_ble_eq_true rfl) ?_
            exact b66 _ _ _ _ _ _ _ h _ _ _ hH (lv_sub hl [3, 4, 5, 1, 0, 6] rfl)
  refine lv_iconst (v := -1) hx hb dX4_given_0 (by decide) ?_
  refine lv_istore_n hx hb dX4_given_1 rfl hl (by decide) (lv' := [(3, .int (-1 : Int32)), (0, va_rf (some a0)), (1, .int x1), (2, .int x2)]) rfl (fun ls hl => ?_)
  refine lv_iconst (v := -1) hx hb dX4_given_2 (by decide) ?_
  refine lv_istore hx hb dX4_given_3 hl (by decide) (lv' := [(4, .int (-1 : Int32)), (3, .int (-1 : Int32)), (0, va_rf (some a0)), (1, .int x1), (2, .int x2)]) rfl (fun ls hl => ?_)
  refine lv_iconst (v := 0) hx hb dX4_given_5 (by decide) ?_
  refine lv_istore hx hb dX4_given_6 hl (by decide) (lv' := [(5, .int (0 : Int32)), (4, .int (-1 : Int32)), (3, .int (-1 : Int32)), (0, va_rf (some a0)), (1, .int x1), (2, .int x2)]) rfl (fun ls hl => ?_)
  obtain ⟨n9, h⟩ := h
  refine W.widen (k := 0) (n := 0) (Nat.le_of_ble_eq_true rfl) (Nat.le_of_ble_eq_true rfl) ?_
  exact L8 n9 _ _ _ _ _ _ _ h _ _ _ hH (lv_sub hl [3, 4, 5, 2, 1, 0] rfl)
def wp_X4_fresh (w : Hp) (x0 : Int32) (K : Hp → Int32 → Prop) : Prop :=
  nm (((577 : Int64) * (x0.toInt64)) - ((577 : Int64) * (x0.toInt64)) / (1018 : Int64) * (1018 : Int64)) fun l_1 => K w ((1 : Int32) + (Int64.toInt32 l_1))
abbrev rm_X4_fresh : Room := { frames := 0, cells := 0, slots := 0, locals := 0 }
abbrev ws9_X4_fresh : List Cond := ws_ yX4_fresh cX4_fresh 1 (Option.some Jvm.ClassFile.FieldType.int)
abbrev Q9_X4_fresh (below : List Frame) (args : Array Value) (s : State) (G : hG) (K : Hp → Int32 → Prop) : State → Prop := MQ below (hx_Qi G K) args s 0 0 (hx_A G)
set_option maxHeartbeats 4000000 in
set_option maxRecDepth 100000 in
theorem wk_X4_fresh (l : Launch) {G : hG} {w : Hp} {x0 : Int32} {K : Hp → Int32 → Prop} (h : wp_X4_fresh w x0 K) : hx_Mi l yX4_fresh (ws9_X4_fresh) rm_X4_fresh G w [.int x0] K 0 0 := by
  refine Met.ofW (cc := cX4_fresh) (maxL := 1) (ret := (Option.some Jvm.ClassFile.FieldType.int)) (by decide +kernel) rfl ?_
  intro p e s m args below meth c s₁ B hml hv
  refine hx_in (own := RX4) (av := [.int x0]) (vl := [(0, .int x0)]) rfl rfl (Nat.le_of_ble_eq_true rfl) rfl B hml hv ?_
  intro C0 hU hH hr hlocks hin ls hl
  have hx := C0.1
  have hb := C0.2.1
  have hts := C0.2.2.2.2
  refine lv_iconst (v := 1) hx hb dX4_fresh_0 (by decide) ?_
  refine lv_ldc2 (v := 577) hx hb C0.2.2.2.1 (hts _ q1250) dX4_fresh_1 ?_
  refine lv_iload_n hx hb dX4_fresh_4 rfl (lv_at hl 0 rfl) ?_
  refine lv_i2l hx hb dX4_fresh_5 rfl ?_
  refine lv_lmul hx hb dX4_fresh_6 ?_
  refine lv_ldc2 (v := 1018) hx hb C0.2.2.2.1 (hts _ q1251) dX4_fresh_7 ?_
  refine lv_lrem hx hb dX4_fresh_10 (by decide) ?_
  refine lv_topl (fun l_1 el_1 => ?_)
  have h := h l_1 el_1
  refine lv_l2i hx hb dX4_fresh_11 rfl ?_
  refine lv_iadd hx hb dX4_fresh_12 ?_
  exact hx_reti C0 hH hr hlocks h (Nat.le_of_ble_eq_true rfl) (Nat.le_of_ble_eq_true rfl) dX4_fresh_13
def wp_X4_hasCookie (w : Hp) (a0 : Nat) (x1 : Int32) (x2 : Int32) (K : Hp → Int32 → Prop) : Prop :=
  gR w a0 3 17 fun r_1 => dR r_1 fun b_2 => aR w b_2 x1 fun r_3 => dR r_3 fun b_4 => aI w b_4 x2 fun i_5 => br (i_5 = (-1 : Int32)) (K w (0 : Int32)) (gI w a0 3 0 fun i_7 => gR w a0 3 18 fun r_8 => dR r_8 fun b_9 => aR w b_9 x1 fun r_10 => dR r_10 fun b_11 => aI w b_11 x2 fun i_12 => br ((60 : Int32) ≤ (i_7 - i_12)) (K w (0 : Int32)) (K w (1 : Int32)))
abbrev rm_X4_hasCookie : Room := { frames := 0, cells := 0, slots := 0, locals := 0 }
abbrev ws9_X4_hasCookie : List Cond := ws_ yX4_hasCookie cX4_hasCookie 3 (Option.some Jvm.ClassFile.FieldType.boolean)
abbrev Q9_X4_hasCookie (below : List Frame) (args : Array Value) (s : State) (G : hG) (K : Hp → Int32 → Prop) : State → Prop := MQ below (hx_Qi G K) args s 0 0 (hx_A G)
set_option maxHeartbeats 4000000 in
set_option maxRecDepth 100000 in
theorem wk_X4_hasCookie (l : Launch) {G : hG} {w : Hp} {a0 : Nat} {x1 : Int32} {x2 : Int32} {K : Hp → Int32 → Prop} (h : wp_X4_hasCookie w a0 x1 x2 K) : hx_Mi l yX4_hasCookie (ws9_X4_hasCookie) rm_X4_hasCookie G w [.ref a0, .int x1, .int x2] K 0 0 := by
  refine Met.ofW (cc := cX4_hasCookie) (maxL := 3) (ret := (Option.some Jvm.ClassFile.FieldType.boolean)) (by decide +kernel) rfl ?_
  intro p e s m args below meth c s₁ B hml hv
  refine hx_in (own := RX4) (av := [.ref a0, .int x1, .int x2]) (vl := [(0, va_rf (some a0)), (1, .int x1), (2, .int x2)]) rfl rfl (Nat.le_of_ble_eq_true rfl) rfl B hml hv ?_
  intro C0 hU hH hr hlocks hin ls hl
  have hx := C0.1
  have hb := C0.2.1
  have hts := C0.2.2.2.2
  refine hx_aload_n C0 dX4_hasCookie_0 rfl (lv_at hl 0 rfl) ?_
  refine hx_gR C0 hU hH (ci := 3) rfl in_X4 17 (by decide) q1088 (fun _ h9 => h9) h dX4_hasCookie_1 (fun r_1 h => ?_)
  refine lv_iload_n hx hb dX4_hasCookie_4 rfl (lv_at hl 1 rfl) ?_
  obtain ⟨b_2, rfl, h9⟩ := h
  have h := h9
  clear h9
  refine hx_aR C0 hU hH h dX4_hasCookie_5 (fun r_3 h => ?_)
  refine lv_iload_n hx hb dX4_hasCookie_6 rfl (lv_at hl 2 rfl) ?_
  obtain ⟨b_4, rfl, h9⟩ := h
  have h := h9
  clear h9
  refine hx_aI C0 hU hH h dX4_hasCookie_7 (fun i_5 h => ?_)
  refine lv_iconst (v := -1) hx hb dX4_hasCookie_8 (by decide) ?_
  refine lv_icmp_eq hx hb dX4_hasCookie_9 (tgt := 34) (by decide) (fun c_6 => ?_) (fun c_6 => ?_)
  · have h := h.1 c_6
    refine lv_iconst (v := 0) hx hb dX4_hasCookie_34 (by decide) ?_
    exact hx_retz C0 hH hr hlocks (Or.inl rfl) h (Nat.le_of_ble_eq_true rfl) (Nat.le_of_ble_eq_true rfl) dX4_hasCookie_35
  · have h := h.2 c_6
    refine hx_aload_n C0 dX4_hasCookie_12 rfl (lv_at hl 0 rfl) ?_
    refine hx_gI C0 hU hH (ci := 3) rfl in_X4 0 (by decide) q1071 (fun _ h9 => h9) h dX4_hasCookie_13 (fun i_7 h => ?_)
    refine hx_aload_n C0 dX4_hasCookie_16 rfl (lv_at hl 0 rfl) ?_
    refine hx_gR C0 hU hH (ci := 3) rfl in_X4 18 (by decide) q1089 (fun _ h9 => h9) h dX4_hasCookie_17 (fun r_8 h => ?_)
    refine lv_iload_n hx hb dX4_hasCookie_20 rfl (lv_at hl 1 rfl) ?_
    obtain ⟨b_9, rfl, h9⟩ := h
    have h := h9
    clear h9
    refine hx_aR C0 hU hH h dX4_hasCookie_21 (fun r_10 h => ?_)
    refine lv_iload_n hx hb dX4_hasCookie_22 rfl (lv_at hl 2 rfl) ?_
    obtain ⟨b_11, rfl, h9⟩ := h
    have h := h9
    clear h9
    refine hx_aI C0 hU hH h dX4_hasCookie_23 (fun i_12 h => ?_)
    refine lv_isub hx hb dX4_hasCookie_24 ?_
    refine lv_bipush (v := 60) hx hb dX4_hasCookie_25 (by decide) ?_
    refine lv_icmp_ge hx hb dX4_hasCookie_27 (tgt := 34) (by decide) (fun c_13 => ?_) (fun c_13 => ?_)
    · have h := h.1 c_13
      refine lv_iconst (v := 0) hx hb dX4_hasCookie_34 (by decide) ?_
      exact hx_retz C0 hH hr hlocks (Or.inl rfl) h (Nat.le_of_ble_eq_true rfl) (Nat.le_of_ble_eq_true rfl) dX4_hasCookie_35
    · have h := h.2 c_13
      refine lv_iconst (v := 1) hx hb dX4_hasCookie_30 (by decide) ?_
      refine lv_goto hx hb dX4_hasCookie_31 (tgt := 35) (by decide) ?_
      exact hx_retz C0 hH hr hlocks (Or.inr rfl) h (Nat.le_of_ble_eq_true rfl) (Nat.le_of_ble_eq_true rfl) dX4_hasCookie_35
def wp_X4_power_b35 (K : Hp → Int32 → Prop) (bk13 : Hp → Int64 → Int64 → Int32 → Prop) (w : Hp) (x2 : Int64) (x4 : Int64) (x6 : Int32) : Prop :=
  nm ((x4 * x4) - (x4 * x4) / (2039 : Int64) * (2039 : Int64)) fun l_1 => nm (x6 >>> ((1 : Int32) &&& 31)) fun i_2 => bk13 w x2 l_1 i_2
def wp_X4_power_s13 (K : Hp → Int32 → Prop)  (bk13 : Hp → Int64 → Int64 → Int32 → Prop) (w : Hp) (x2 : Int64) (x4 : Int64) (x6 : Int32) : Prop :=
  br (x6 ≤ 0) (K w (Int64.toInt32 x2)) (br ((x6 &&& (1 : Int32)) = (1 : Int32)) (nm ((x2 * x4) - (x2 * x4) / (2039 : Int64) * (2039 : Int64)) fun l_3 => wp_X4_power_b35 K bk13 w l_3 x4 x6) (wp_X4_power_b35 K bk13 w x2 x4 x6))
def wp_X4_power_l13 (K : Hp → Int32 → Prop)  : ((Hp × Int64 × Int64 × Int32) → Prop) → (Hp × Int64 × Int64 × Int32) → Prop := fun bk q => wp_X4_power_s13 K  (fun w x2 x4 x6 => bk (w, x2, x4, x6)) q.1 q.2.1 q.2.2.1 q.2.2.2
def wp_X4_power_b13 (K : Hp → Int32 → Prop)  (w : Hp) (x2 : Int64) (x4 : Int64) (x6 : Int32) : Prop := lp (wp_X4_power_l13 K ) (w, x2, x4, x6)
def wp_X4_power (w : Hp) (x0 : Int32) (x1 : Int32) (K : Hp → Int32 → Prop) : Prop :=
  nm (x0 - x0 / (2039 : Int32) * (2039 : Int32)) fun i_1 => nm (i_1.toInt64) fun l_2 => wp_X4_power_b13 K w (1 : Int64) l_2 x1
abbrev rm_X4_power : Room := { frames := 0, cells := 0, slots := 0, locals := 0 }
abbrev ws9_X4_power : List Cond := ws_ yX4_power cX4_power 7 (Option.some Jvm.ClassFile.FieldType.int)
abbrev Q9_X4_power (below : List Frame) (args : Array Value) (s : State) (G : hG) (K : Hp → Int32 → Prop) : State → Prop := MQ below (hx_Qi G K) args s 0 0 (hx_A G)
set_option maxHeartbeats 4000000 in
set_option maxRecDepth 100000 in
theorem wk_X4_power (l : Launch) {G : hG} {w : Hp} {x0 : Int32} {x1 : Int32} {K : Hp → Int32 → Prop} (h : wp_X4_power w x0 x1 K) : hx_Mi l yX4_power (ws9_X4_power) rm_X4_power G w [.int x0, .int x1] K 0 0 := by
  refine Met.ofW (cc := cX4_power) (maxL := 7) (ret := (Option.some Jvm.ClassFile.FieldType.int)) (by decide +kernel) rfl ?_
  intro p e s m args below meth c s₁ B hml hv
  refine hx_in (own := RX4) (av := [.int x0, .int x1]) (vl := [(0, .int x0), (1, .int x1)]) rfl rfl (Nat.le_of_ble_eq_true rfl) rfl B hml hv ?_
  intro C0 hU hH hr hlocks hin ls hl
  have hx := C0.1
  have hb := C0.2.1
  have hts := C0.2.2.2.2
  have L13 : ∀ (n13 : Nat) (w : Hp) (x2 : Int64) (x4 : Int64) (x6 : Int32), lpN (wp_X4_power_l13 K ) n13 (w, x2, x4, x6) → ∀ (H : Heap) (locs : List Loc) (ls : Array Slot), hx_H G w s H locs → lv_has ls 7 [(2, .long x2), (4, .long x4), (6, .int x6)] → W p l e (headSpec (ws9_X4_power) rm_X4_power).room s m args below meth c H locs (0) (0) (Q9_X4_power below args s G K) (F0 m 13 ls []) := by
    intro n13
    induction n13 with
    | zero => intro w x2 x4 x6 h; exact h.elim
    | succ n13 ih13 =>
      intro w x2 x4 x6 h H locs ls hH hl
      have h : wp_X4_power_s13 K  (fun w x2 x4 x6 => lpN (wp_X4_power_l13 K ) n13 (w, x2, x4, x6)) w x2 x4 x6 := h
      have b35 : ∀ (w : Hp) (x2 : Int64) (x4 : Int64) (x6 : Int32), wp_X4_power_b35 K (fun w x2 x4 x6 => lpN (wp_X4_power_l13 K ) n13 (w, x2, x4, x6)) w x2 x4 x6 → ∀ (H : Heap) (locs : List Loc) (ls : Array Slot), hx_H G w s H locs → lv_has ls 7 [(2, .long x2), (4, .long x4), (6, .int x6)] → W p l e (headSpec (ws9_X4_power) rm_X4_power).room s m args below meth c H locs (0) (0) (Q9_X4_power below args s G K) (F0 m 35 ls []) := by
        intro w x2 x4 x6 h H locs ls hH hl
        refine lv_lload hx hb dX4_power_35 (lv_at hl 1 rfl) ?_
        refine lv_lload hx hb dX4_power_37 (lv_at hl 1 rfl) ?_
        refine lv_lmul hx hb dX4_power_39 ?_
        refine lv_ldc2 (v := 2039) hx hb C0.2.2.2.1 (hts _ q1269) dX4_power_40 ?_
        refine lv_lrem hx hb dX4_power_43 (by decide) ?_
        refine lv_topl (fun l_1 el_1 => ?_)
        have h := h l_1 el_1
        refine lv_lstore hx hb dX4_power_44 hl (by decide) (lv' := [(4, .long l_1), (2, .long x2), (6, .int x6)]) rfl (fun ls hl => ?_)
        refine lv_iload hx hb dX4_power_46 (lv_at hl 2 rfl) ?_
        refine lv_iconst (v := 1) hx hb dX4_power_48 (by decide) ?_
        refine lv_ishr hx hb dX4_power_49 ?_
        refine lv_topi (fun i_2 ei_2 => ?_)
        have h := h i_2 ei_2
        refine lv_istore hx hb dX4_power_50 hl (by decide) (lv' := [(6, .int i_2), (4, .long l_1), (2, .long x2)]) rfl (fun ls hl => ?_)
        refine lv_goto hx hb dX4_power_52 (tgt := 13) (by decide) ?_
        refine W.widen (k := 0) (n := 0) (Nat.le_of_ble_eq_true rfl) (Nat.le_of_ble_eq_true rfl) ?_
        exact ih13 _ _ _ _ h _ _ _ hH (lv_sub hl [2, 1, 0] rfl)
      refine lv_iload hx hb dX4_power_13 (lv_at hl 2 rfl) ?_
      refine lv_if_le hx hb dX4_power_15 (tgt := 55) (by decide) (fun c_1 => ?_) (fun c_1 => ?_)
      · have h := h.1 c_1
        refine lv_lload_n hx hb dX4_power_55 rfl (lv_at hl 0 rfl) ?_
        refine lv_l2i hx hb dX4_power_56 rfl ?_
        exact hx_reti C0 hH hr hlocks h (Nat.le_of_ble_eq_true rfl) (Nat.le_of_ble_eq_true rfl) dX4_power_57
      · have h := h.2 c_1
        refine lv_iload hx hb dX4_power_18 (lv_at hl 2 rfl) ?_
        refine lv_iconst (v := 1) hx hb dX4_power_20 (by decide) ?_
        refine lv_iand hx hb dX4_power_21 ?_
        refine lv_iconst (v := 1) hx hb dX4_power_22 (by decide) ?_
        refine lv_icmp_ne hx hb dX4_power_23 (tgt := 35) (by decide) (fun c_2 => ?_) (fun c_2 => ?_)
        · have h := h.2 c_2
          refine W.widen (k := 0) (n := 0) (Nat.le_of_ble_eq_true rfl) (Nat.le_of_ble_eq_true rfl) ?_
          exact b35 _ _ _ _ h _ _ _ hH (lv_sub hl [0, 1, 2] rfl)
        · have h := h.1 c_2
          refine lv_lload_n hx hb dX4_power_26 rfl (lv_at hl 0 rfl) ?_
          refine lv_lload hx hb dX4_power_27 (lv_at hl 1 rfl) ?_
          refine lv_lmul hx hb dX4_power_29 ?_
          refine lv_ldc2 (v := 2039) hx hb C0.2.2.2.1 (hts _ q1269) dX4_power_30 ?_
          refine lv_lrem hx hb dX4_power_33 (by decide) ?_
          refine lv_topl (fun l_3 el_3 => ?_)
          have h := h l_3 el_3
          refine lv_lstore_n hx hb dX4_power_34 rfl hl (by decide) (lv' := [(2, .long l_3), (4, .long x4), (6, .int x6)]) rfl (fun ls hl => ?_)
          refine W.widen (k := 0) (n := 0) (Nat.le_of_ble_eq_true rfl) (Nat.le_of_ble_eq_true rfl) ?_
          exact b35 _ _ _ _ h _ _ _ hH (lv_sub hl [0, 1, 2] rfl)
  refine lv_lconst (v := 1) hx hb dX4_power_0 (by decide) ?_
  refine lv_lstore_n hx hb dX4_power_1 rfl hl (by decide) (lv' := [(2, .long (1 : Int64)), (0, .int x0), (1, .int x1)]) rfl (fun ls hl => ?_)
  refine lv_iload_n hx hb dX4_power_2 rfl (lv_at hl 1 rfl) ?_
  refine lv_sipush (v := 2039) hx hb dX4_power_3 (by decide) ?_
  refine lv_irem hx hb dX4_power_6 (by decide) ?_
  refine lv_topi (fun i_1 ei_1 => ?_)
  have h := h i_1 ei_1
  refine lv_i2l hx hb dX4_power_7 rfl ?_
  refine lv_topl (fun l_2 el_2 => ?_)
  have h := h l_2 el_2
  refine lv_lstore hx hb dX4_power_8 hl (by decide) (lv' := [(4, .long l_2), (2, .long (1 : Int64)), (0, .int x0), (1, .int x1)]) rfl (fun ls hl => ?_)
  refine lv_iload_n hx hb dX4_power_10 rfl (lv_at hl 3 rfl) ?_
  refine lv_istore hx hb dX4_power_11 hl (by decide) (lv' := [(6, .int x1), (4, .long l_2), (2, .long (1 : Int64)), (0, .int x0), (1, .int x1)]) rfl (fun ls hl => ?_)
  obtain ⟨n9, h⟩ := h
  refine W.widen (k := 0) (n := 0) (Nat.le_of_ble_eq_true rfl) (Nat.le_of_ble_eq_true rfl) ?_
  exact L13 n9 _ _ _ _ h _ _ _ hH (lv_sub hl [2, 1, 0] rfl)
def wp_X4_both (w : Hp) (x0 : Int32) (x1 : Int32) (K : Hp → Int32 → Prop) : Prop :=
  wp_X4_power w x1 x0 fun w i_1 => K w i_1
abbrev rm_X4_both : Room := { frames := 1, cells := 0, slots := 0, locals := 26 }
abbrev ws9_X4_both : List Cond := ws_ yX4_both cX4_both 2 (Option.some Jvm.ClassFile.FieldType.int)
abbrev Q9_X4_both (below : List Frame) (args : Array Value) (s : State) (G : hG) (K : Hp → Int32 → Prop) : State → Prop := MQ below (hx_Qi G K) args s 0 0 (hx_A G)
set_option maxHeartbeats 4000000 in
set_option maxRecDepth 100000 in
theorem wk_X4_both (l : Launch) {G : hG} {w : Hp} {x0 : Int32} {x1 : Int32} {K : Hp → Int32 → Prop} (h : wp_X4_both w x0 x1 K) : hx_Mi l yX4_both (ws9_X4_both) rm_X4_both G w [.int x0, .int x1] K 0 0 := by
  refine Met.ofW (cc := cX4_both) (maxL := 2) (ret := (Option.some Jvm.ClassFile.FieldType.int)) (by decide +kernel) rfl ?_
  intro p e s m args below meth c s₁ B hml hv
  refine hx_in (own := RX4) (av := [.int x0, .int x1]) (vl := [(0, .int x0), (1, .int x1)]) rfl rfl (Nat.le_of_ble_eq_true rfl) rfl B hml hv ?_
  intro C0 hU hH hr hlocks hin ls hl
  have hx := C0.1
  have hb := C0.2.1
  have hts := C0.2.2.2.2
  refine lv_iload_n hx hb dX4_both_0 rfl (lv_at hl 1 rfl) ?_
  refine lv_iload_n hx hb dX4_both_1 rfl (lv_at hl 0 rfl) ?_
  refine hx_Si C0 hU hH (As := [.int x1, .int x0]) (wk_X4_power l h) (va_cwS 2 hts (lw_S q1266 q1267 q71 q1268) rfl rfl rfl (by decide +kernel) ⟨Nat.le_of_ble_eq_true rfl, Nat.le_of_ble_eq_true rfl⟩) rfl hl.1 rfl (Nat.le_of_ble_eq_true rfl) dX4_both_2 ⟨Nat.le_of_ble_eq_true rfl, Nat.le_of_ble_eq_true rfl⟩ (fun i_1 w H locs hH h => ?_)
  exact hx_reti C0 hH hr hlocks h (Nat.le_of_ble_eq_true rfl) (Nat.le_of_ble_eq_true rfl) dX4_both_5
def wp_X4_mix_s13 (K : Hp → Int32 → Prop)  (bk13 : Hp → Int64 → Nat → Int32 → Int32 → Prop) (w : Hp) (x1 : Int64) (a3 : Nat) (x4 : Int32) (x5 : Int32) : Prop :=
  br (x4 ≤ x5) (br ((lg_cmp x1 (0 : Int64)) = 0) (K w (1 : Int32)) (K w (Int64.toInt32 x1))) (aI w a3 x5 fun i_3 => wp_X4_rest w ((((31 : Int64) * x1) + (i_3.toInt64)) + (2 : Int64)) fun w l_4 => nm (x5 + 1) fun i_5 => bk13 w l_4 a3 x4 i_5)
def wp_X4_mix_l13 (K : Hp → Int32 → Prop)  : ((Hp × Int64 × Nat × Int32 × Int32) → Prop) → (Hp × Int64 × Nat × Int32 × Int32) → Prop := fun bk q => wp_X4_mix_s13 K  (fun w x1 a3 x4 x5 => bk (w, x1, a3, x4, x5)) q.1 q.2.1 q.2.2.1 q.2.2.2.1 q.2.2.2.2
def wp_X4_mix_b13 (K : Hp → Int32 → Prop)  (w : Hp) (x1 : Int64) (a3 : Nat) (x4 : Int32) (x5 : Int32) : Prop := lp (wp_X4_mix_l13 K ) (w, x1, a3, x4, x5)
def wp_X4_mix (w : Hp) (a0 : Nat) (K : Hp → Int32 → Prop) : Prop :=
  aN w a0 fun i_1 => wp_X4_mix_b13 K w (17 : Int64) a0 i_1 (0 : Int32)
abbrev rm_X4_mix : Room := { frames := 1, cells := 0, slots := 0, locals := 21 }
abbrev ws9_X4_mix : List Cond := ws_ yX4_mix cX4_mix 7 (Option.some Jvm.ClassFile.FieldType.int)
abbrev Q9_X4_mix (below : List Frame) (args : Array Value) (s : State) (G : hG) (K : Hp → Int32 → Prop) : State → Prop := MQ below (hx_Qi G K) args s 0 0 (hx_A G)
set_option maxHeartbeats 4000000 in
set_option maxRecDepth 100000 in
theorem wk_X4_mix (l : Launch) {G : hG} {w : Hp} {a0 : Nat} {K : Hp → Int32 → Prop} (h : wp_X4_mix w a0 K) : hx_Mi l yX4_mix (ws9_X4_mix) rm_X4_mix G w [.ref a0] K 0 0 := by
  refine Met.ofW (cc := cX4_mix) (maxL := 7) (ret := (Option.some Jvm.ClassFile.FieldType.int)) (by decide +kernel) rfl ?_
  intro p e s m args below meth c s₁ B hml hv
  refine hx_in (own := RX4) (av := [.ref a0]) (vl := [(0, va_rf (some a0))]) rfl rfl (Nat.le_of_ble_eq_true rfl) rfl B hml hv ?_
  intro C0 hU hH hr hlocks hin ls hl
  have hx := C0.1
  have hb := C0.2.1
  have hts := C0.2.2.2.2
  have L13 : ∀ (n13 : Nat) (w : Hp) (x1 : Int64) (a3 : Nat) (x4 : Int32) (x5 : Int32), lpN (wp_X4_mix_l13 K ) n13 (w, x1, a3, x4, x5) → ∀ (H : Heap) (locs : List Loc) (ls : Array Slot), hx_H G w s H locs → lv_has ls 7 [(1, .long x1), (3, va_rf (some a3)), (4, .int x4), (5, .int x5)] → W p l e (headSpec (ws9_X4_mix) rm_X4_mix).room s m args below meth c H locs (0) (0) (Q9_X4_mix below args s G K) (F0 m 13 ls []) := by
    intro n13
    induction n13 with
    | zero => intro w x1 a3 x4 x5 h; exact h.elim
    | succ n13 ih13 =>
      intro w x1 a3 x4 x5 h H locs ls hH hl
      have h : wp_X4_mix_s13 K  (fun w x1 a3 x4 x5 => lpN (wp_X4_mix_l13 K ) n13 (w, x1, a3, x4, x5)) w x1 a3 x4 x5 := h
      refine lv_iload hx hb dX4_mix_13 (lv_at hl 3 rfl) ?_
      refine lv_iload hx hb dX4_mix_15 (lv_at hl 2 rfl) ?_
      refine lv_icmp_ge hx hb dX4_mix_17 (tgt := 49) (by decide) (fun c_1 => ?_) (fun c_1 => ?_)
      · have h := h.1 c_1
        refine lv_lload_n hx hb dX4_mix_49 rfl (lv_at hl 0 rfl) ?_
        refine lv_lconst (v := 0) hx hb dX4_mix_50 (by decide) ?_
        refine W.lcmp hx hb dX4_mix_51 ?_
        refine lv_if_ne hx hb dX4_mix_52 (tgt := 59) (by decide) (fun c_2 => ?_) (fun c_2 => ?_)
        · have h := h.2 c_2
          refine lv_lload_n hx hb dX4_mix_59 rfl (lv_at hl 0 rfl) ?_
          refine lv_l2i hx hb dX4_mix_60 rfl ?_
          exact hx_reti C0 hH hr hlocks h (Nat.le_of_ble_eq_true rfl) (Nat.le_of_ble_eq_true rfl) dX4_mix_61
        · have h := h.1 c_2
          refine lv_iconst (v := 1) hx hb dX4_mix_55 (by decide) ?_
          refine lv_goto hx hb dX4_mix_56 (tgt := 61) (by decide) ?_
          exact hx_reti C0 hH hr hlocks h (Nat.le_of_ble_eq_true rfl) (Nat.le_of_ble_eq_true rfl) dX4_mix_61
      · have h := h.2 c_1
        refine hx_aload_n C0 dX4_mix_20 rfl (lv_at hl 1 rfl) ?_
        refine lv_iload hx hb dX4_mix_21 (lv_at hl 3 rfl) ?_
        refine hx_aI C0 hU hH h dX4_mix_23 (fun i_3 h => ?_)
        refine lv_istore hx hb dX4_mix_24 hl (by decide) (lv' := [(6, .int i_3), (1, .long x1), (3, va_rf (some a3)), (4, .int x4), (5, .int x5)]) rfl (fun ls hl => ?_)
        refine lv_ldc2 (v := 31) hx hb C0.2.2.2.1 (hts _ q1277) dX4_mix_26 ?_
        refine lv_lload_n hx hb dX4_mix_29 rfl (lv_at hl 1 rfl) ?_
        refine lv_lmul hx hb dX4_mix_30 ?_
        refine lv_iload hx hb dX4_mix_31 (lv_at hl 0 rfl) ?_
        refine lv_i2l hx hb dX4_mix_33 rfl ?_
        refine lv_ladd hx hb dX4_mix_34 ?_
        refine lv_ldc2 (v := 2) hx hb C0.2.2.2.1 (hts _ q1178) dX4_mix_35 ?_
        refine lv_ladd hx hb dX4_mix_38 ?_
        refine hx_Sl C0 hU hH (As := [.long ((((31 : Int64) * x1) + (i_3.toInt64)) + (2 : Int64))]) (wk_X4_rest l h) (va_cwS 1 hts (lw_S q1231 q1232 q71 q1233) rfl rfl rfl (by decide +kernel) ⟨Nat.le_of_ble_eq_true rfl, Nat.le_of_ble_eq_true rfl⟩) rfl hl.1 rfl (Nat.le_of_ble_eq_true rfl) dX4_mix_39 ⟨Nat.le_of_ble_eq_true rfl, Nat.le_of_ble_eq_true rfl⟩ (fun l_4 w H locs hH h => ?_)
        refine lv_lstore_n hx hb dX4_mix_42 rfl hl (by decide) (lv' := [(1, .long l_4), (6, .int i_3), (3, va_rf (some a3)), (4, .int x4), (5, .int x5)]) rfl (fun ls hl => ?_)
        obtain ⟨i_5, ei_5⟩ : ∃ z, z = x5 + 1 := ⟨_, rfl⟩
        have h := h i_5 ei_5
        refine lv_iinc (k := 4) hx hb dX4_mix_43 hl rfl (v := i_5) (by rw [ei_5]; rfl) (by decide) (lv' := [(5, .int i_5), (1, .long l_4), (6, .int i_3), (3, va_rf (some a3)), (4, .int x4)]) rfl (fun ls hl => ?_)
        refine lv_goto hx hb dX4_mix_46 (tgt := 13) (by decide) ?_
        refine W.widen (k := 0) (n := 0) (Nat.le_of_ble_eq_true rfl) (Nat.le_of_ble_eq_true rfl) ?_
        exact ih13 _ _ _ _ _ h _ _ _ hH (lv_sub hl [1, 3, 4, 0] rfl)
  refine lv_ldc2 (v := 17) hx hb C0.2.2.2.1 (hts _ q1276) dX4_mix_0 ?_
  refine lv_lstore_n hx hb dX4_mix_3 rfl hl (by decide) (lv' := [(1, .long (17 : Int64)), (0, va_rf (some a0))]) rfl (fun ls hl => ?_)
  refine hx_aload_n C0 dX4_mix_4 rfl (lv_at hl 1 rfl) ?_
  refine hx_astore_n C0 dX4_mix_5 rfl hl (by decide) (lv' := [(3, va_rf (some a0)), (1, .long (17 : Int64)), (0, va_rf (some a0))]) rfl (fun ls hl => ?_)
  refine hx_aload_n C0 dX4_mix_6 rfl (lv_at hl 0 rfl) ?_
  refine hx_aN C0 hU hH h dX4_mix_7 (fun i_1 h => ?_)
  refine lv_istore hx hb dX4_mix_8 hl (by decide) (lv' := [(4, .int i_1), (3, va_rf (some a0)), (1, .long (17 : Int64)), (0, va_rf (some a0))]) rfl (fun ls hl => ?_)
  refine lv_iconst (v := 0) hx hb dX4_mix_10 (by decide) ?_
  refine lv_istore hx hb dX4_mix_11 hl (by decide) (lv' := [(5, .int (0 : Int32)), (4, .int i_1), (3, va_rf (some a0)), (1, .long (17 : Int64)), (0, va_rf (some a0))]) rfl (fun ls hl => ?_)
  obtain ⟨n9, h⟩ := h
  refine W.widen (k := 0) (n := 0) (Nat.le_of_ble_eq_true rfl) (Nat.le_of_ble_eq_true rfl) ?_
  exact L13 n9 _ _ _ _ _ h _ _ _ hH (lv_sub hl [3, 2, 1, 0] rfl)
def wp_X4_open (w : Hp) (x0 : Int32) (K : Hp → Int32 → Prop) : Prop :=
  wp_X4_power w (7 : Int32) x0 fun w i_1 => K w i_1
abbrev rm_X4_open : Room := { frames := 1, cells := 0, slots := 0, locals := 26 }
abbrev ws9_X4_open : List Cond := ws_ yX4_open cX4_open 1 (Option.some Jvm.ClassFile.FieldType.int)
abbrev Q9_X4_open (below : List Frame) (args : Array Value) (s : State) (G : hG) (K : Hp → Int32 → Prop) : State → Prop := MQ below (hx_Qi G K) args s 0 0 (hx_A G)
set_option maxHeartbeats 4000000 in
set_option maxRecDepth 100000 in
theorem wk_X4_open (l : Launch) {G : hG} {w : Hp} {x0 : Int32} {K : Hp → Int32 → Prop} (h : wp_X4_open w x0 K) : hx_Mi l yX4_open (ws9_X4_open) rm_X4_open G w [.int x0] K 0 0 := by
  refine Met.ofW (cc := cX4_open) (maxL := 1) (ret := (Option.some Jvm.ClassFile.FieldType.int)) (by decide +kernel) rfl ?_
  intro p e s m args below meth c s₁ B hml hv
  refine hx_in (own := RX4) (av := [.int x0]) (vl := [(0, .int x0)]) rfl rfl (Nat.le_of_ble_eq_true rfl) rfl B hml hv ?_
  intro C0 hU hH hr hlocks hin ls hl
  have hx := C0.1
  have hb := C0.2.1
  have hts := C0.2.2.2.2
  refine lv_bipush (v := 7) hx hb dX4_open_0 (by decide) ?_
  refine lv_iload_n hx hb dX4_open_2 rfl (lv_at hl 0 rfl) ?_
  refine hx_Si C0 hU hH (As := [.int (7 : Int32), .int x0]) (wk_X4_power l h) (va_cwS 2 hts (lw_S q1266 q1267 q71 q1268) rfl rfl rfl (by decide +kernel) ⟨Nat.le_of_ble_eq_true rfl, Nat.le_of_ble_eq_true rfl⟩) rfl hl.1 rfl (Nat.le_of_ble_eq_true rfl) dX4_open_3 ⟨Nat.le_of_ble_eq_true rfl, Nat.le_of_ble_eq_true rfl⟩ (fun i_1 w H locs hH h => ?_)
  exact hx_reti C0 hH hr hlocks h (Nat.le_of_ble_eq_true rfl) (Nat.le_of_ble_eq_true rfl) dX4_open_6
def wp_X4_secretOf (w : Hp) (x0 : Int32) (K : Hp → Int32 → Prop) : Prop :=
  K w ((211 : Int32) + ((307 : Int32) * x0))
abbrev rm_X4_secretOf : Room := { frames := 0, cells := 0, slots := 0, locals := 0 }
abbrev ws9_X4_secretOf : List Cond := ws_ yX4_secretOf cX4_secretOf 1 (Option.some Jvm.ClassFile.FieldType.int)
abbrev Q9_X4_secretOf (below : List Frame) (args : Array Value) (s : State) (G : hG) (K : Hp → Int32 → Prop) : State → Prop := MQ below (hx_Qi G K) args s 0 0 (hx_A G)
set_option maxHeartbeats 4000000 in
set_option maxRecDepth 100000 in
theorem wk_X4_secretOf (l : Launch) {G : hG} {w : Hp} {x0 : Int32} {K : Hp → Int32 → Prop} (h : wp_X4_secretOf w x0 K) : hx_Mi l yX4_secretOf (ws9_X4_secretOf) rm_X4_secretOf G w [.int x0] K 0 0 := by
  refine Met.ofW (cc := cX4_secretOf) (maxL := 1) (ret := (Option.some Jvm.ClassFile.FieldType.int)) (by decide +kernel) rfl ?_
  intro p e s m args below meth c s₁ B hml hv
  refine hx_in (own := RX4) (av := [.int x0]) (vl := [(0, .int x0)]) rfl rfl (Nat.le_of_ble_eq_true rfl) rfl B hml hv ?_
  intro C0 hU hH hr hlocks hin ls hl
  have hx := C0.1
  have hb := C0.2.1
  have hts := C0.2.2.2.2
  refine lv_sipush (v := 211) hx hb dX4_secretOf_0 (by decide) ?_
  refine lv_sipush (v := 307) hx hb dX4_secretOf_3 (by decide) ?_
  refine lv_iload_n hx hb dX4_secretOf_6 rfl (lv_at hl 0 rfl) ?_
  refine lv_imul hx hb dX4_secretOf_7 ?_
  refine lv_iadd hx hb dX4_secretOf_8 ?_
  exact hx_reti C0 hH hr hlocks h (Nat.le_of_ble_eq_true rfl) (Nat.le_of_ble_eq_true rfl) dX4_secretOf_9
def wp_X4_nameOf (w : Hp) (x0 : Int32) (K : Hp → Int32 → Prop) : Prop :=
  wp_X4_secretOf w x0 fun w i_1 => wp_X4_open w i_1 fun w i_2 => K w i_2
abbrev rm_X4_nameOf : Room := { frames := 2, cells := 0, slots := 0, locals := 46 }
abbrev ws9_X4_nameOf : List Cond := ws_ yX4_nameOf cX4_nameOf 1 (Option.some Jvm.ClassFile.FieldType.int)
abbrev Q9_X4_nameOf (below : List Frame) (args : Array Value) (s : State) (G : hG) (K : Hp → Int32 → Prop) : State → Prop := MQ below (hx_Qi G K) args s 0 0 (hx_A G)
set_option maxHeartbeats 4000000 in
set_option maxRecDepth 100000 in
theorem wk_X4_nameOf (l : Launch) {G : hG} {w : Hp} {x0 : Int32} {K : Hp → Int32 → Prop} (h : wp_X4_nameOf w x0 K) : hx_Mi l yX4_nameOf (ws9_X4_nameOf) rm_X4_nameOf G w [.int x0] K 0 0 := by
  refine Met.ofW (cc := cX4_nameOf) (maxL := 1) (ret := (Option.some Jvm.ClassFile.FieldType.int)) (by decide +kernel) rfl ?_
  intro p e s m args below meth c s₁ B hml hv
  refine hx_in (own := RX4) (av := [.int x0]) (vl := [(0, .int x0)]) rfl rfl (Nat.le_of_ble_eq_true rfl) rfl B hml hv ?_
  intro C0 hU hH hr hlocks hin ls hl
  have hx := C0.1
  have hb := C0.2.1
  have hts := C0.2.2.2.2
  refine lv_iload_n hx hb dX4_nameOf_0 rfl (lv_at hl 0 rfl) ?_
  refine hx_Si C0 hU hH (As := [.int x0]) (wk_X4_secretOf l h) (va_cwS 1 hts (lw_S q1260 q1261 q71 q1262) rfl rfl rfl (by decide +kernel) ⟨Nat.le_of_ble_eq_true rfl, Nat.le_of_ble_eq_true rfl⟩) rfl hl.1 rfl (Nat.le_of_ble_eq_true rfl) dX4_nameOf_1 ⟨Nat.le_of_ble_eq_true rfl, Nat.le_of_ble_eq_true rfl⟩ (fun i_1 w H locs hH h => ?_)
  refine hx_Si C0 hU hH (As := [.int i_1]) (wk_X4_open l h) (va_cwS 1 hts (lw_S q1263 q1264 q71 q1265) rfl rfl rfl (by decide +kernel) ⟨Nat.le_of_ble_eq_true rfl, Nat.le_of_ble_eq_true rfl⟩) rfl hl.1 rfl (Nat.le_of_ble_eq_true rfl) dX4_nameOf_4 ⟨Nat.le_of_ble_eq_true rfl, Nat.le_of_ble_eq_true rfl⟩ (fun i_2 w H locs hH h => ?_)
  exact hx_reti C0 hH hr hlocks h (Nat.le_of_ble_eq_true rfl) (Nat.le_of_ble_eq_true rfl) dX4_nameOf_7
def wp_X4_keyOf (w : Hp) (a0 : Nat) (x1 : Int32) (x2 : Int32) (x3 : Int32) (K : Hp → Int32 → Prop) : Prop :=
  nI_ w (3 : Int32) 3 fun w b_1 => sI w b_1 (0 : Int32) (1 : Int32) fun w => wp_X4_nameOf w x2 fun w i_2 => wp_X4_both w x3 i_2 fun w i_3 => sI w b_1 (1 : Int32) i_3 fun w => wp_X4_secretOf w x1 fun w i_4 => wp_X4_nameOf w x2 fun w i_5 => wp_X4_both w i_4 i_5 fun w i_6 => sI w b_1 (2 : Int32) i_6 fun w => wp_X4_mix w b_1 fun w i_7 => K w i_7
abbrev rm_X4_keyOf : Room := { frames := 3, cells := 1, slots := 3, locals := 66 }
abbrev ws9_X4_keyOf : List Cond := ws_ yX4_keyOf cX4_keyOf 4 (Option.some Jvm.ClassFile.FieldType.int)
abbrev Q9_X4_keyOf (below : List Frame) (args : Array Value) (s : State) (G : hG) (K : Hp → Int32 → Prop) : State → Prop := MQ below (hx_Qi G K) args s 1 3 (hx_A G)
set_option maxHeartbeats 4000000 in
set_option maxRecDepth 100000 in
theorem wk_X4_keyOf (l : Launch) {G : hG} {w : Hp} {a0 : Nat} {x1 : Int32} {x2 : Int32} {x3 : Int32} {K : Hp → Int32 → Prop} (h : wp_X4_keyOf w a0 x1 x2 x3 K) : hx_Mi l yX4_keyOf (ws9_X4_keyOf) rm_X4_keyOf G w [.ref a0, .int x1, .int x2, .int x3] K 1 3 := by
  refine Met.ofW (cc := cX4_keyOf) (maxL := 4) (ret := (Option.some Jvm.ClassFile.FieldType.int)) (by decide +kernel) rfl ?_
  intro p e s m args below meth c s₁ B hml hv
  refine hx_in (own := RX4) (av := [.ref a0, .int x1, .int x2, .int x3]) (vl := [(0, va_rf (some a0)), (1, .int x1), (2, .int x2), (3, .int x3)]) rfl rfl (Nat.le_of_ble_eq_true rfl) rfl B hml hv ?_
  intro C0 hU hH hr hlocks hin ls hl
  have hx := C0.1
  have hb := C0.2.1
  have hts := C0.2.2.2.2
  refine lv_iconst (v := 3) hx hb dX4_keyOf_0 (by decide) ?_
  refine hx_nI C0 hU hH (Nat.le_of_ble_eq_true rfl) (Nat.le_of_ble_eq_true rfl) (Nat.le_of_ble_eq_true rfl) h dX4_keyOf_1 (fun b_1 w H locs hH h => ?_)
  refine lv_dup hx hb dX4_keyOf_3 rfl ?_
  refine lv_iconst (v := 0) hx hb dX4_keyOf_4 (by decide) ?_
  refine lv_iconst (v := 1) hx hb dX4_keyOf_5 (by decide) ?_
  refine hx_sI C0 hU hH h dX4_keyOf_6 (fun w H locs hH h => ?_)
  refine lv_dup hx hb dX4_keyOf_7 rfl ?_
  refine lv_iconst (v := 1) hx hb dX4_keyOf_8 (by decide) ?_
  refine lv_iload_n hx hb dX4_keyOf_9 rfl (lv_at hl 3 rfl) ?_
  refine lv_iload_n hx hb dX4_keyOf_10 rfl (lv_at hl 2 rfl) ?_
  refine hx_Si C0 hU hH (As := [.int x2]) (wk_X4_nameOf l h) (va_cwS 1 hts (lw_S q1257 q1258 q71 q1259) rfl rfl rfl (by decide +kernel) ⟨Nat.le_of_ble_eq_true rfl, Nat.le_of_ble_eq_true rfl⟩) rfl hl.1 rfl (Nat.le_of_ble_eq_true rfl) dX4_keyOf_11 ⟨Nat.le_of_ble_eq_true rfl, Nat.le_of_ble_eq_true rfl⟩ (fun i_2 w H locs hH h => ?_)
  refine hx_Si C0 hU hH (As := [.int x3, .int i_2]) (wk_X4_both l h) (va_cwS 2 hts (lw_S q1270 q1271 q71 q1272) rfl rfl rfl (by decide +kernel) ⟨Nat.le_of_ble_eq_true rfl, Nat.le_of_ble_eq_true rfl⟩) rfl hl.1 rfl (Nat.le_of_ble_eq_true rfl) dX4_keyOf_14 ⟨Nat.le_of_ble_eq_true rfl, Nat.le_of_ble_eq_true rfl⟩ (fun i_3 w H locs hH h => ?_)
  refine hx_sI C0 hU hH h dX4_keyOf_17 (fun w H locs hH h => ?_)
  refine lv_dup hx hb dX4_keyOf_18 rfl ?_
  refine lv_iconst (v := 2) hx hb dX4_keyOf_19 (by decide) ?_
  refine lv_iload_n hx hb dX4_keyOf_20 rfl (lv_at hl 1 rfl) ?_
  refine hx_Si C0 hU hH (As := [.int x1]) (wk_X4_secretOf l h) (va_cwS 1 hts (lw_S q1260 q1261 q71 q1262) rfl rfl rfl (by decide +kernel) ⟨Nat.le_of_ble_eq_true rfl, Nat.le_of_ble_eq_true rfl⟩) rfl hl.1 rfl (Nat.le_of_ble_eq_true rfl) dX4_keyOf_21 ⟨Nat.le_of_ble_eq_true rfl, Nat.le_of_ble_eq_true rfl⟩ (fun i_4 w H locs hH h => ?_)
  refine lv_iload_n hx hb dX4_keyOf_24 rfl (lv_at hl 2 rfl) ?_
  refine hx_Si C0 hU hH (As := [.int x2]) (wk_X4_nameOf l h) (va_cwS 1 hts (lw_S q1257 q1258 q71 q1259) rfl rfl rfl (by decide +kernel) ⟨Nat.le_of_ble_eq_true rfl, Nat.le_of_ble_eq_true rfl⟩) rfl hl.1 rfl (Nat.le_of_ble_eq_true rfl) dX4_keyOf_25 ⟨Nat.le_of_ble_eq_true rfl, Nat.le_of_ble_eq_true rfl⟩ (fun i_5 w H locs hH h => ?_)
  refine hx_Si C0 hU hH (As := [.int i_4, .int i_5]) (wk_X4_both l h) (va_cwS 2 hts (lw_S q1270 q1271 q71 q1272) rfl rfl rfl (by decide +kernel) ⟨Nat.le_of_ble_eq_true rfl, Nat.le_of_ble_eq_true rfl⟩) rfl hl.1 rfl (Nat.le_of_ble_eq_true rfl) dX4_keyOf_28 ⟨Nat.le_of_ble_eq_true rfl, Nat.le_of_ble_eq_true rfl⟩ (fun i_6 w H locs hH h => ?_)
  refine hx_sI C0 hU hH h dX4_keyOf_31 (fun w H locs hH h => ?_)
  refine hx_Si C0 hU hH (As := [va_rf (some b_1)]) (wk_X4_mix l h) (va_cwS 1 hts (lw_S q1273 q1274 q71 q1275) rfl rfl rfl (by decide +kernel) ⟨Nat.le_of_ble_eq_true rfl, Nat.le_of_ble_eq_true rfl⟩) rfl hl.1 rfl (Nat.le_of_ble_eq_true rfl) dX4_keyOf_32 ⟨Nat.le_of_ble_eq_true rfl, Nat.le_of_ble_eq_true rfl⟩ (fun i_7 w H locs hH h => ?_)
  exact hx_reti C0 hH hr hlocks h (Nat.le_of_ble_eq_true rfl) (Nat.le_of_ble_eq_true rfl) dX4_keyOf_35
def wp_X4_hello_b228 (K : Hp → Int32 → Prop)  (w : Hp) (x3 : Int32) (t0 : Int32) (t1 : Int32) (at2 : Nat) (at3 : Nat) (t4 : Int32) (t5 : Int32) (t6 : Int32) (at7 : Nat) : Prop :=
  sI w at2 t1 t0 fun w => isO w at7 3 <| wp_X4_put w at7 t6 t5 t4 at3 fun w => K w x3
def wp_X4_hello (w : Hp) (a0 : Nat) (x1 : Int32) (x2 : Int32) (K : Hp → Int32 → Prop) : Prop :=
  gI w a0 3 1 fun i_1 => pV w a0 3 1 (.int (i_1 + (1 : Int32))) fun w => wp_X4_fresh w i_1 fun w i_2 => nm (((10 : Int32) * x1) + x2) fun i_3 => gI w a0 3 0 fun i_4 => gR w a0 3 12 fun r_5 => dR r_5 fun b_6 => aR w b_6 x1 fun r_7 => dR r_7 fun b_8 => aI w b_8 x2 fun i_9 => wp_J4_max w ((4 : Int32) * i_4) (i_9 + (1 : Int32)) fun w i_10 => isO w a0 3 <| wp_X4_keyOf w a0 x1 x2 i_2 fun w i_11 => nI_ w (5 : Int32) 5 fun w b_12 => sI w b_12 (0 : Int32) (1 : Int32) fun w => sI w b_12 (1 : Int32) i_1 fun w => wp_X4_open w i_2 fun w i_13 => sI w b_12 (2 : Int32) i_13 fun w => sI w b_12 (3 : Int32) i_3 fun w => sI w b_12 (4 : Int32) i_10 fun w => wp_X4_sealOf w i_11 b_12 fun w i_14 => gR w a0 3 12 fun r_15 => dR r_15 fun b_16 => aR w b_16 x1 fun r_17 => dR r_17 fun b_18 => sI w b_18 x2 i_10 fun w => gR w a0 3 13 fun r_19 => dR r_19 fun b_20 => aR w b_20 x1 fun r_21 => dR r_21 fun b_22 => sI w b_22 x2 i_1 fun w => gR w a0 3 14 fun r_23 => dR r_23 fun b_24 => aR w b_24 x1 fun r_25 => dR r_25 fun b_26 => sI w b_26 x2 i_2 fun w => gR w a0 3 15 fun r_27 => dR r_27 fun b_28 => aR w b_28 x1 fun r_29 => dR r_29 fun b_30 => sI w b_30 x2 i_14 fun w => gR w a0 3 16 fun r_31 => dR r_31 fun b_32 => aR w b_32 x1 fun r_33 => gI w a0 3 0 fun i_34 => dR r_33 fun b_35 => sI w b_35 x2 i_34 fun w => gR w a0 3 4 fun r_36 => dR r_36 fun b_37 => aI w b_37 x1 fun i_38 => gR w a0 3 10 fun r_39 => dR r_39 fun b_40 => aR w b_40 x1 fun r_41 => dR r_41 fun b_42 => aI w b_42 x2 fun i_43 => nI_ w (6 : Int32) 6 fun w b_44 => sI w b_44 (0 : Int32) i_1 fun w => wp_X4_open w i_2 fun w i_45 => sI w b_44 (1 : Int32) i_45 fun w => sI w b_44 (2 : Int32) i_3 fun w => sI w b_44 (3 : Int32) i_10 fun w => sI w b_44 (4 : Int32) i_14 fun w => isO w a0 3 <| wp_X4_hasCookie w a0 x1 x2 fun w i_46 => br (i_46 = 0) (wp_X4_hello_b228 K w i_1 (0 : Int32) (5 : Int32) b_44 b_44 (1 : Int32) i_43 i_38 a0) (nI_ w (3 : Int32) 3 fun w b_48 => sI w b_48 (0 : Int32) (2 : Int32) fun w => gR w a0 3 17 fun r_49 => dR r_49 fun b_50 => aR w b_50 x1 fun r_51 => dR r_51 fun b_52 => aI w b_52 x2 fun i_53 => sI w b_48 (1 : Int32) i_53 fun w => sI w b_48 (2 : Int32) i_14 fun w => wp_X4_mix w b_48 fun w i_54 => wp_X4_hello_b228 K w i_1 i_54 (5 : Int32) b_44 b_44 (1 : Int32) i_43 i_38 a0)
abbrev rm_X4_hello : Room := { frames := 4, cells := 5, slots := 33, locals := 89 }
abbrev ws9_X4_hello : List Cond := ws_ yX4_hello cX4_hello 8 (Option.some Jvm.ClassFile.FieldType.int)
abbrev Q9_X4_hello (below : List Frame) (args : Array Value) (s : State) (G : hG) (K : Hp → Int32 → Prop) : State → Prop := MQ below (hx_Qi G K) args s 5 33 (hx_A G)
set_option maxHeartbeats 4000000 in
set_option maxRecDepth 100000 in
theorem wk_X4_hello (l : Launch) {G : hG} {w : Hp} {a0 : Nat} {x1 : Int32} {x2 : Int32} {K : Hp → Int32 → Prop} (h : wp_X4_hello w a0 x1 x2 K) : hx_Mi l yX4_hello (ws9_X4_hello) rm_X4_hello G w [.ref a0, .int x1, .int x2] K 5 33 := by
  refine Met.ofW (cc := cX4_hello) (maxL := 8) (ret := (Option.some Jvm.ClassFile.FieldType.int)) (by decide +kernel) rfl ?_
  intro p e s m args below meth c s₁ B hml hv
  refine hx_in (own := RX4) (av := [.ref a0, .int x1, .int x2]) (vl := [(0, va_rf (some a0)), (1, .int x1), (2, .int x2)]) rfl rfl (Nat.le_of_ble_eq_true rfl) rfl B hml hv ?_
  intro C0 hU hH hr hlocks hin ls hl
  have hx := C0.1
  have hb := C0.2.1
  have hts := C0.2.2.2.2
  have b228 : ∀ (w : Hp) (x3 : Int32) (t0 : Int32) (t1 : Int32) (at2 : Nat) (at3 : Nat) (t4 : Int32) (t5 : Int32) (t6 : Int32) (at7 : Nat), wp_X4_hello_b228 K  w x3 t0 t1 at2 at3 t4 t5 t6 at7 → ∀ (H : Heap) (locs : List Loc) (ls : Array Slot), hx_H G w s H locs → lv_has ls 8 [(3, .int x3)] → W p l e (headSpec (ws9_X4_hello) rm_X4_hello).room s m args below meth c H locs (4) (17) (Q9_X4_hello below args s G K) (F0 m 228 ls [.int t0, .int t1, va_rf (some at2), va_rf (some at3), .int t4, .int t5, .int t6, va_rf (some at7)]) := by
    intro w x3 t0 t1 at2 at3 t4 t5 t6 at7 h H locs ls hH hl
    refine hx_sI C0 hU hH h dX4_hello_228 (fun w H locs hH h => ?_)
    obtain ⟨ho, h⟩ := h
    refine hx_Vv C0 hU hH (As := [.int t6, .int t5, .int t4, va_rf (some at3)]) (wk_X4_put l h) (cwV 4 hts (lw_V q1235 q1237 qs41 q71 q1238) rfl rfl rfl (by decide +kernel) ⟨Nat.le_of_ble_eq_true rfl, Nat.le_of_ble_eq_true rfl⟩) (hx_recv hU hH (ci := 3) rfl ho) rfl hl.1 rfl (Nat.le_of_ble_eq_true rfl) dX4_hello_229 ⟨Nat.le_of_ble_eq_true rfl, Nat.le_of_ble_eq_true rfl⟩ (fun w H locs hH h => ?_)
    refine lv_iload_n hx hb dX4_hello_232 rfl (lv_at hl 0 rfl) ?_
    exact hx_reti C0 hH hr hlocks h (Nat.le_of_ble_eq_true rfl) (Nat.le_of_ble_eq_true rfl) dX4_hello_233
  refine hx_aload_n C0 dX4_hello_0 rfl (lv_at hl 0 rfl) ?_
  refine lv_dup hx hb dX4_hello_1 rfl ?_
  refine hx_gI C0 hU hH (ci := 3) rfl in_X4 1 (by decide) q1072 (fun _ h9 => h9) h dX4_hello_2 (fun i_1 h => ?_)
  refine lv_dup_x1 hx hb dX4_hello_5 rfl rfl ?_
  refine lv_iconst (v := 1) hx hb dX4_hello_6 (by decide) ?_
  refine lv_iadd hx hb dX4_hello_7 ?_
  refine hx_pV C0 hU hH (ci := 3) rfl in_X4 tyX4 tyX4_ok nmX4 1 (by decide) q1072 (fun _ h9 => h9) (Or.inl rfl) rfl rfl h dX4_hello_8 (fun w H locs hH h => ?_)
  refine lv_istore_n hx hb dX4_hello_11 rfl hl (by decide) (lv' := [(3, .int i_1), (0, va_rf (some a0)), (1, .int x1), (2, .int x2)]) rfl (fun ls hl => ?_)
  refine lv_iload_n hx hb dX4_hello_12 rfl (lv_at hl 0 rfl) ?_
  refine hx_Si C0 hU hH (As := [.int i_1]) (wk_X4_fresh l h) (va_cwS 1 hts (lw_S q1247 q1248 q71 q1249) rfl rfl rfl (by decide +kernel) ⟨Nat.le_of_ble_eq_true rfl, Nat.le_of_ble_eq_true rfl⟩) rfl hl.1 rfl (Nat.le_of_ble_eq_true rfl) dX4_hello_13 ⟨Nat.le_of_ble_eq_true rfl, Nat.le_of_ble_eq_true rfl⟩ (fun i_2 w H locs hH h => ?_)
  refine lv_istore hx hb dX4_hello_16 hl (by decide) (lv' := [(4, .int i_2), (3, .int i_1), (0, va_rf (some a0)), (1, .int x1), (2, .int x2)]) rfl (fun ls hl => ?_)
  refine lv_bipush (v := 10) hx hb dX4_hello_18 (by decide) ?_
  refine lv_iload_n hx hb dX4_hello_20 rfl (lv_at hl 3 rfl) ?_
  refine lv_imul hx hb dX4_hello_21 ?_
  refine lv_iload_n hx hb dX4_hello_22 rfl (lv_at hl 4 rfl) ?_
  refine lv_iadd hx hb dX4_hello_23 ?_
  refine lv_topi (fun i_3 ei_3 => ?_)
  have h := h i_3 ei_3
  refine lv_istore hx hb dX4_hello_24 hl (by decide) (lv' := [(5, .int i_3), (4, .int i_2), (3, .int i_1), (0, va_rf (some a0)), (1, .int x1), (2, .int x2)]) rfl (fun ls hl => ?_)
  refine lv_iconst (v := 4) hx hb dX4_hello_26 (by decide) ?_
  refine hx_aload_n C0 dX4_hello_27 rfl (lv_at hl 3 rfl) ?_
  refine hx_gI C0 hU hH (ci := 3) rfl in_X4 0 (by decide) q1071 (fun _ h9 => h9) h dX4_hello_28 (fun i_4 h => ?_)
  refine lv_imul hx hb dX4_hello_31 ?_
  refine hx_aload_n C0 dX4_hello_32 rfl (lv_at hl 3 rfl) ?_
  refine hx_gR C0 hU hH (ci := 3) rfl in_X4 12 (by decide) q1083 (fun _ h9 => h9) h dX4_hello_33 (fun r_5 h => ?_)
  refine lv_iload_n hx hb dX4_hello_36 rfl (lv_at hl 4 rfl) ?_
  obtain ⟨b_6, rfl, h9⟩ := h
  have h := h9
  clear h9
  refine hx_aR C0 hU hH h dX4_hello_37 (fun r_7 h => ?_)
  refine lv_iload_n hx hb dX4_hello_38 rfl (lv_at hl 5 rfl) ?_
  obtain ⟨b_8, rfl, h9⟩ := h
  have h := h9
  clear h9
  refine hx_aI C0 hU hH h dX4_hello_39 (fun i_9 h => ?_)
  refine lv_iconst (v := 1) hx hb dX4_hello_40 (by decide) ?_
  refine lv_iadd hx hb dX4_hello_41 ?_
  refine hx_Si C0 hU hH (As := [.int ((4 : Int32) * i_4), .int (i_9 + (1 : Int32))]) (wk_J4_max l h) (va_cwS 2 hts (lw_S q1252 q174 q66 q175) rfl rfl rfl (by decide +kernel) ⟨Nat.le_of_ble_eq_true rfl, Nat.le_of_ble_eq_true rfl⟩) rfl hl.1 rfl (Nat.le_of_ble_eq_true rfl) dX4_hello_42 ⟨Nat.le_of_ble_eq_true rfl, Nat.le_of_ble_eq_true rfl⟩ (fun i_10 w H locs hH h => ?_)
  refine lv_istore hx hb dX4_hello_45 hl (by decide) (lv' := [(6, .int i_10), (5, .int i_3), (4, .int i_2), (3, .int i_1), (0, va_rf (some a0)), (1, .int x1), (2, .int x2)]) rfl (fun ls hl => ?_)
  refine hx_aload_n C0 dX4_hello_47 rfl (lv_at hl 4 rfl) ?_
  refine lv_iload_n hx hb dX4_hello_48 rfl (lv_at hl 5 rfl) ?_
  refine lv_iload_n hx hb dX4_hello_49 rfl (lv_at hl 6 rfl) ?_
  refine lv_iload hx hb dX4_hello_50 (lv_at hl 2 rfl) ?_
  obtain ⟨ho, h⟩ := h
  refine hx_Vi C0 hU hH (As := [.int x1, .int x2, .int i_2]) (wk_X4_keyOf l h) (cwV 3 hts (lw_V q1253 q1255 qs44 q71 q1256) rfl rfl rfl (by decide +kernel) ⟨Nat.le_of_ble_eq_true rfl, Nat.le_of_ble_eq_true rfl⟩) (hx_recv hU hH (ci := 3) rfl ho) rfl hl.1 rfl (Nat.le_of_ble_eq_true rfl) dX4_hello_52 ⟨Nat.le_of_ble_eq_true rfl, Nat.le_of_ble_eq_true rfl⟩ (fun i_11 w H locs hH h => ?_)
  refine lv_iconst (v := 5) hx hb dX4_hello_55 (by decide) ?_
  refine hx_nI C0 hU hH (Nat.le_of_ble_eq_true rfl) (Nat.le_of_ble_eq_true rfl) (Nat.le_of_ble_eq_true rfl) h dX4_hello_56 (fun b_12 w H locs hH h => ?_)
  refine lv_dup hx hb dX4_hello_58 rfl ?_
  refine lv_iconst (v := 0) hx hb dX4_hello_59 (by decide) ?_
  refine lv_iconst (v := 1) hx hb dX4_hello_60 (by decide) ?_
  refine hx_sI C0 hU hH h dX4_hello_61 (fun w H locs hH h => ?_)
  refine lv_dup hx hb dX4_hello_62 rfl ?_
  refine lv_iconst (v := 1) hx hb dX4_hello_63 (by decide) ?_
  refine lv_iload_n hx hb dX4_hello_64 rfl (lv_at hl 3 rfl) ?_
  refine hx_sI C0 hU hH h dX4_hello_65 (fun w H locs hH h => ?_)
  refine lv_dup hx hb dX4_hello_66 rfl ?_
  refine lv_iconst (v := 2) hx hb dX4_hello_67 (by decide) ?_
  refine lv_iload hx hb dX4_hello_68 (lv_at hl 2 rfl) ?_
  refine hx_Si C0 hU hH (As := [.int i_2]) (wk_X4_open l h) (va_cwS 1 hts (lw_S q1263 q1264 q71 q1265) rfl rfl rfl (by decide +kernel) ⟨Nat.le_of_ble_eq_true rfl, Nat.le_of_ble_eq_true rfl⟩) rfl hl.1 rfl (Nat.le_of_ble_eq_true rfl) dX4_hello_70 ⟨Nat.le_of_ble_eq_true rfl, Nat.le_of_ble_eq_true rfl⟩ (fun i_13 w H locs hH h => ?_)
  refine hx_sI C0 hU hH h dX4_hello_73 (fun w H locs hH h => ?_)
  refine lv_dup hx hb dX4_hello_74 rfl ?_
  refine lv_iconst (v := 3) hx hb dX4_hello_75 (by decide) ?_
  refine lv_iload hx hb dX4_hello_76 (lv_at hl 1 rfl) ?_
  refine hx_sI C0 hU hH h dX4_hello_78 (fun w H locs hH h => ?_)
  refine lv_dup hx hb dX4_hello_79 rfl ?_
  refine lv_iconst (v := 4) hx hb dX4_hello_80 (by decide) ?_
  refine lv_iload hx hb dX4_hello_81 (lv_at hl 0 rfl) ?_
  refine hx_sI C0 hU hH h dX4_hello_83 (fun w H locs hH h => ?_)
  refine hx_Si C0 hU hH (As := [.int i_11, va_rf (some b_12)]) (wk_X4_sealOf l h) (va_cwS 2 hts (lw_S q1228 q1229 q71 q1230) rfl rfl rfl (by decide +kernel) ⟨Nat.le_of_ble_eq_true rfl, Nat.le_of_ble_eq_true rfl⟩) rfl hl.1 rfl (Nat.le_of_ble_eq_true rfl) dX4_hello_84 ⟨Nat.le_of_ble_eq_true rfl, Nat.le_of_ble_eq_true rfl⟩ (fun i_14 w H locs hH h => ?_)
  refine lv_istore hx hb dX4_hello_87 hl (by decide) (lv' := [(7, .int i_14), (6, .int i_10), (5, .int i_3), (4, .int i_2), (3, .int i_1), (0, va_rf (some a0)), (1, .int x1), (2, .int x2)]) rfl (fun ls hl => ?_)
  refine hx_aload_n C0 dX4_hello_89 rfl (lv_at hl 5 rfl) ?_
  refine hx_gR C0 hU hH (ci := 3) rfl in_X4 12 (by decide) q1083 (fun _ h9 => h9) h dX4_hello_90 (fun r_15 h => ?_)
  refine lv_iload_n hx hb dX4_hello_93 rfl (lv_at hl 6 rfl) ?_
  obtain ⟨b_16, rfl, h9⟩ := h
  have h := h9
  clear h9
  refine hx_aR C0 hU hH h dX4_hello_94 (fun r_17 h => ?_)
  refine lv_iload_n hx hb dX4_hello_95 rfl (lv_at hl 7 rfl) ?_
  refine lv_iload hx hb dX4_hello_96 (lv_at hl 1 rfl) ?_
  obtain ⟨b_18, rfl, h9⟩ := h
  have h := h9
  clear h9
  refine hx_sI C0 hU hH h dX4_hello_98 (fun w H locs hH h => ?_)
  refine hx_aload_n C0 dX4_hello_99 rfl (lv_at hl 5 rfl) ?_
  refine hx_gR C0 hU hH (ci := 3) rfl in_X4 13 (by decide) q1084 (fun _ h9 => h9) h dX4_hello_100 (fun r_19 h => ?_)
  refine lv_iload_n hx hb dX4_hello_103 rfl (lv_at hl 6 rfl) ?_
  obtain ⟨b_20, rfl, h9⟩ := h
  have h := h9
  clear h9
  refine hx_aR C0 hU hH h dX4_hello_104 (fun r_21 h => ?_)
  refine lv_iload_n hx hb dX4_hello_105 rfl (lv_at hl 7 rfl) ?_
  refine lv_iload_n hx hb dX4_hello_106 rfl (lv_at hl 4 rfl) ?_
  obtain ⟨b_22, rfl, h9⟩ := h
  have h := h9
  clear h9
  refine hx_sI C0 hU hH h dX4_hello_107 (fun w H locs hH h => ?_)
  refine hx_aload_n C0 dX4_hello_108 rfl (lv_at hl 5 rfl) ?_
  refine hx_gR C0 hU hH (ci := 3) rfl in_X4 14 (by decide) q1085 (fun _ h9 => h9) h dX4_hello_109 (fun r_23 h => ?_)
  refine lv_iload_n hx hb dX4_hello_112 rfl (lv_at hl 6 rfl) ?_
  obtain ⟨b_24, rfl, h9⟩ := h
  have h := h9
  clear h9
  refine hx_aR C0 hU hH h dX4_hello_113 (fun r_25 h => ?_)
  refine lv_iload_n hx hb dX4_hello_114 rfl (lv_at hl 7 rfl) ?_
  refine lv_iload hx hb dX4_hello_115 (lv_at hl 3 rfl) ?_
  obtain ⟨b_26, rfl, h9⟩ := h
  have h := h9
  clear h9
  refine hx_sI C0 hU hH h dX4_hello_117 (fun w H locs hH h => ?_)
  refine hx_aload_n C0 dX4_hello_118 rfl (lv_at hl 5 rfl) ?_
  refine hx_gR C0 hU hH (ci := 3) rfl in_X4 15 (by decide) q1086 (fun _ h9 => h9) h dX4_hello_119 (fun r_27 h => ?_)
  refine lv_iload_n hx hb dX4_hello_122 rfl (lv_at hl 6 rfl) ?_
  obtain ⟨b_28, rfl, h9⟩ := h
  have h := h9
  clear h9
  refine hx_aR C0 hU hH h dX4_hello_123 (fun r_29 h => ?_)
  refine lv_iload_n hx hb dX4_hello_124 rfl (lv_at hl 7 rfl) ?_
  refine lv_iload hx hb dX4_hello_125 (lv_at hl 0 rfl) ?_
  obtain ⟨b_30, rfl, h9⟩ := h
  have h := h9
  clear h9
  refine hx_sI C0 hU hH h dX4_hello_127 (fun w H locs hH h => ?_)
  refine hx_aload_n C0 dX4_hello_128 rfl (lv_at hl 5 rfl) ?_
  refine hx_gR C0 hU hH (ci := 3) rfl in_X4 16 (by decide) q1087 (fun _ h9 => h9) h dX4_hello_129 (fun r_31 h => ?_)
  refine lv_iload_n hx hb dX4_hello_132 rfl (lv_at hl 6 rfl) ?_
  obtain ⟨b_32, rfl, h9⟩ := h
  have h := h9
  clear h9
  refine hx_aR C0 hU hH h dX4_hello_133 (fun r_33 h => ?_)
  refine lv_iload_n hx hb dX4_hello_134 rfl (lv_at hl 7 rfl) ?_
  refine hx_aload_n C0 dX4_hello_135 rfl (lv_at hl 5 rfl) ?_
  refine hx_gI C0 hU hH (ci := 3) rfl in_X4 0 (by decide) q1071 (fun _ h9 => h9) h dX4_hello_136 (fun i_34 h => ?_)
  obtain ⟨b_35, rfl, h9⟩ := h
  have h := h9
  clear h9
  refine hx_sI C0 hU hH h dX4_hello_139 (fun w H locs hH h => ?_)
  refine hx_aload_n C0 dX4_hello_140 rfl (lv_at hl 5 rfl) ?_
  refine hx_aload_n C0 dX4_hello_141 rfl (lv_at hl 5 rfl) ?_
  refine hx_gR C0 hU hH (ci := 3) rfl in_X4 4 (by decide) q1075 (fun _ h9 => h9) h dX4_hello_142 (fun r_36 h => ?_)
  refine lv_iload_n hx hb dX4_hello_145 rfl (lv_at hl 6 rfl) ?_
  obtain ⟨b_37, rfl, h9⟩ := h
  have h := h9
  clear h9
  refine hx_aI C0 hU hH h dX4_hello_146 (fun i_38 h => ?_)
  refine hx_aload_n C0 dX4_hello_147 rfl (lv_at hl 5 rfl) ?_
  refine hx_gR C0 hU hH (ci := 3) rfl in_X4 10 (by decide) q1081 (fun _ h9 => h9) h dX4_hello_148 (fun r_39 h => ?_)
  refine lv_iload_n hx hb dX4_hello_151 rfl (lv_at hl 6 rfl) ?_
  obtain ⟨b_40, rfl, h9⟩ := h
  have h := h9
  clear h9
  refine hx_aR C0 hU hH h dX4_hello_152 (fun r_41 h => ?_)
  refine lv_iload_n hx hb dX4_hello_153 rfl (lv_at hl 7 rfl) ?_
  obtain ⟨b_42, rfl, h9⟩ := h
  have h := h9
  clear h9
  refine hx_aI C0 hU hH h dX4_hello_154 (fun i_43 h => ?_)
  refine lv_iconst (v := 1) hx hb dX4_hello_155 (by decide) ?_
  refine lv_bipush (v := 6) hx hb dX4_hello_156 (by decide) ?_
  refine hx_nI C0 hU hH (Nat.le_of_ble_eq_true rfl) (Nat.le_of_ble_eq_true rfl) (Nat.le_of_ble_eq_true rfl) h dX4_hello_158 (fun b_44 w H locs hH h => ?_)
  refine lv_dup hx hb dX4_hello_160 rfl ?_
  refine lv_iconst (v := 0) hx hb dX4_hello_161 (by decide) ?_
  refine lv_iload_n hx hb dX4_hello_162 rfl (lv_at hl 4 rfl) ?_
  refine hx_sI C0 hU hH h dX4_hello_163 (fun w H locs hH h => ?_)
  refine lv_dup hx hb dX4_hello_164 rfl ?_
  refine lv_iconst (v := 1) hx hb dX4_hello_165 (by decide) ?_
  refine lv_iload hx hb dX4_hello_166 (lv_at hl 3 rfl) ?_
  refine hx_Si C0 hU hH (As := [.int i_2]) (wk_X4_open l h) (va_cwS 1 hts (lw_S q1263 q1264 q71 q1265) rfl rfl rfl (by decide +kernel) ⟨Nat.le_of_ble_eq_true rfl, Nat.le_of_ble_eq_true rfl⟩) rfl hl.1 rfl (Nat.le_of_ble_eq_true rfl) dX4_hello_168 ⟨Nat.le_of_ble_eq_true rfl, Nat.le_of_ble_eq_true rfl⟩ (fun i_45 w H locs hH h => ?_)
  refine hx_sI C0 hU hH h dX4_hello_171 (fun w H locs hH h => ?_)
  refine lv_dup hx hb dX4_hello_172 rfl ?_
  refine lv_iconst (v := 2) hx hb dX4_hello_173 (by decide) ?_
  refine lv_iload hx hb dX4_hello_174 (lv_at hl 2 rfl) ?_
  refine hx_sI C0 hU hH h dX4_hello_176 (fun w H locs hH h => ?_)
  refine lv_dup hx hb dX4_hello_177 rfl ?_
  refine lv_iconst (v := 3) hx hb dX4_hello_178 (by decide) ?_
  refine lv_iload hx hb dX4_hello_179 (lv_at hl 1 rfl) ?_
  refine hx_sI C0 hU hH h dX4_hello_181 (fun w H locs hH h => ?_)
  refine lv_dup hx hb dX4_hello_182 rfl ?_
  refine lv_iconst (v := 4) hx hb dX4_hello_183 (by decide) ?_
  refine lv_iload hx hb dX4_hello_184 (lv_at hl 0 rfl) ?_
  refine hx_sI C0 hU hH h dX4_hello_186 (fun w H locs hH h => ?_)
  refine lv_dup hx hb dX4_hello_187 rfl ?_
  refine lv_iconst (v := 5) hx hb dX4_hello_188 (by decide) ?_
  refine hx_aload_n C0 dX4_hello_189 rfl (lv_at hl 5 rfl) ?_
  refine lv_iload_n hx hb dX4_hello_190 rfl (lv_at hl 6 rfl) ?_
  refine lv_iload_n hx hb dX4_hello_191 rfl (lv_at hl 7 rfl) ?_
  obtain ⟨ho, h⟩ := h
  refine hx_Vi C0 hU hH (As := [.int x1, .int x2]) (wk_X4_hasCookie l h) (cwV 2 hts (lw_V q1278 q1280 qs45 q71 q1281) rfl rfl rfl (by decide +kernel) ⟨Nat.le_of_ble_eq_true rfl, Nat.le_of_ble_eq_true rfl⟩) (hx_recv hU hH (ci := 3) rfl ho) rfl hl.1 rfl (Nat.le_of_ble_eq_true rfl) dX4_hello_192 ⟨Nat.le_of_ble_eq_true rfl, Nat.le_of_ble_eq_true rfl⟩ (fun i_46 w H locs hH h => ?_)
  refine lv_if_eq hx hb dX4_hello_195 (tgt := 227) (by decide) (fun c_47 => ?_) (fun c_47 => ?_)
  · have h := h.1 c_47
    refine lv_iconst (v := 0) hx hb dX4_hello_227 (by decide) ?_
    refine W.widen (k := 4) (n := 17) (Nat.le_of_ble_eq_true rfl) (Nat.le_of_ble_eq_true rfl) ?_
    exact b228 _ _ _ _ _ _ _ _ _ _ h _ _ _ hH (lv_sub hl [4] rfl)
  · have h := h.2 c_47
    refine lv_iconst (v := 3) hx hb dX4_hello_198 (by decide) ?_
    refine hx_nI C0 hU hH (Nat.le_of_ble_eq_true rfl) (Nat.le_of_ble_eq_true rfl) (Nat.le_of_ble_eq_true rfl) h dX4_hello_199 (fun b_48 w H locs hH h => ?_)
    refine lv_dup hx hb dX4_hello_201 rfl ?_
    refine lv_iconst (v := 0) hx hb dX4_hello_202 (by decide) ?_
    refine lv_iconst (v := 2) hx hb dX4_hello_203 (by decide) ?_
    refine hx_sI C0 hU hH h dX4_hello_204 (fun w H locs hH h => ?_)
    refine lv_dup hx hb dX4_hello_205 rfl ?_
    refine lv_iconst (v := 1) hx hb dX4_hello_206 (by decide) ?_
    refine hx_aload_n C0 dX4_hello_207 rfl (lv_at hl 5 rfl) ?_
    refine hx_gR C0 hU hH (ci := 3) rfl in_X4 17 (by decide) q1088 (fun _ h9 => h9) h dX4_hello_208 (fun r_49 h => ?_)
    refine lv_iload_n hx hb dX4_hello_211 rfl (lv_at hl 6 rfl) ?_
    obtain ⟨b_50, rfl, h9⟩ := h
    have h := h9
    clear h9
    refine hx_aR C0 hU hH h dX4_hello_212 (fun r_51 h => ?_)
    refine lv_iload_n hx hb dX4_hello_213 rfl (lv_at hl 7 rfl) ?_
    obtain ⟨b_52, rfl, h9⟩ := h
    have h := h9
    clear h9
    refine hx_aI C0 hU hH h dX4_hello_214 (fun i_53 h => ?_)
    refine hx_sI C0 hU hH h dX4_hello_215 (fun w H locs hH h => ?_)
    refine lv_dup hx hb dX4_hello_216 rfl ?_
    refine lv_iconst (v := 2) hx hb dX4_hello_217 (by decide) ?_
    refine lv_iload hx hb dX4_hello_218 (lv_at hl 0 rfl) ?_
    refine hx_sI C0 hU hH h dX4_hello_220 (fun w H locs hH h => ?_)
    refine hx_Si C0 hU hH (As := [va_rf (some b_48)]) (wk_X4_mix l h) (va_cwS 1 hts (lw_S q1273 q1274 q71 q1275) rfl rfl rfl (by decide +kernel) ⟨Nat.le_of_ble_eq_true rfl, Nat.le_of_ble_eq_true rfl⟩) rfl hl.1 rfl (Nat.le_of_ble_eq_true rfl) dX4_hello_221 ⟨Nat.le_of_ble_eq_true rfl, Nat.le_of_ble_eq_true rfl⟩ (fun i_54 w H locs hH h => ?_)
    refine lv_goto hx hb dX4_hello_224 (tgt := 228) (by decide) ?_
    refine W.widen (k := 4) (n := 17) (Nat.le_of_ble_eq_true rfl) (Nat.le_of_ble_eq_true rfl) ?_
    exact b228 _ _ _ _ _ _ _ _ _ _ h _ _ _ hH (lv_sub hl [4] rfl)
def wp_X4_isFresh (w : Hp) (a0 : Nat) (x1 : Int32) (x2 : Int32) (K : Hp → Int32 → Prop) : Prop :=
  gR w a0 3 13 fun r_1 => dR r_1 fun b_2 => aR w b_2 x1 fun r_3 => dR r_3 fun b_4 => aI w b_4 x2 fun i_5 => br (i_5 = (-1 : Int32)) (K w (0 : Int32)) (gI w a0 3 0 fun i_7 => gR w a0 3 16 fun r_8 => dR r_8 fun b_9 => aR w b_9 x1 fun r_10 => dR r_10 fun b_11 => aI w b_11 x2 fun i_12 => br ((5 : Int32) ≤ (i_7 - i_12)) (K w (0 : Int32)) (K w (1 : Int32)))
abbrev rm_X4_isFresh : Room := { frames := 0, cells := 0, slots := 0, locals := 0 }
abbrev ws9_X4_isFresh : List Cond := ws_ yX4_isFresh cX4_isFresh 3 (Option.some Jvm.ClassFile.FieldType.boolean)
abbrev Q9_X4_isFresh (below : List Frame) (args : Array Value) (s : State) (G : hG) (K : Hp → Int32 → Prop) : State → Prop := MQ below (hx_Qi G K) args s 0 0 (hx_A G)
set_option maxHeartbeats 4000000 in
set_option maxRecDepth 100000 in
theorem wk_X4_isFresh (l : Launch) {G : hG} {w : Hp} {a0 : Nat} {x1 : Int32} {x2 : Int32} {K : Hp → Int32 → Prop} (h : wp_X4_isFresh w a0 x1 x2 K) : hx_Mi l yX4_isFresh (ws9_X4_isFresh) rm_X4_isFresh G w [.ref a0, .int x1, .int x2] K 0 0 := by
  refine Met.ofW (cc := cX4_isFresh) (maxL := 3) (ret := (Option.some Jvm.ClassFile.FieldType.boolean)) (by decide +kernel) rfl ?_
  intro p e s m args below meth c s₁ B hml hv
  refine hx_in (own := RX4) (av := [.ref a0, .int x1, .int x2]) (vl := [(0, va_rf (some a0)), (1, .int x1), (2, .int x2)]) rfl rfl (Nat.le_of_ble_eq_true rfl) rfl B hml hv ?_
  intro C0 hU hH hr hlocks hin ls hl
  have hx := C0.1
  have hb := C0.2.1
  have hts := C0.2.2.2.2
  refine hx_aload_n C0 dX4_isFresh_0 rfl (lv_at hl 0 rfl) ?_
  refine hx_gR C0 hU hH (ci := 3) rfl in_X4 13 (by decide) q1084 (fun _ h9 => h9) h dX4_isFresh_1 (fun r_1 h => ?_)
  refine lv_iload_n hx hb dX4_isFresh_4 rfl (lv_at hl 1 rfl) ?_
  obtain ⟨b_2, rfl, h9⟩ := h
  have h := h9
  clear h9
  refine hx_aR C0 hU hH h dX4_isFresh_5 (fun r_3 h => ?_)
  refine lv_iload_n hx hb dX4_isFresh_6 rfl (lv_at hl 2 rfl) ?_
  obtain ⟨b_4, rfl, h9⟩ := h
  have h := h9
  clear h9
  refine hx_aI C0 hU hH h dX4_isFresh_7 (fun i_5 h => ?_)
  refine lv_iconst (v := -1) hx hb dX4_isFresh_8 (by decide) ?_
  refine lv_icmp_eq hx hb dX4_isFresh_9 (tgt := 33) (by decide) (fun c_6 => ?_) (fun c_6 => ?_)
  · have h := h.1 c_6
    refine lv_iconst (v := 0) hx hb dX4_isFresh_33 (by decide) ?_
    exact hx_retz C0 hH hr hlocks (Or.inl rfl) h (Nat.le_of_ble_eq_true rfl) (Nat.le_of_ble_eq_true rfl) dX4_isFresh_34
  · have h := h.2 c_6
    refine hx_aload_n C0 dX4_isFresh_12 rfl (lv_at hl 0 rfl) ?_
    refine hx_gI C0 hU hH (ci := 3) rfl in_X4 0 (by decide) q1071 (fun _ h9 => h9) h dX4_isFresh_13 (fun i_7 h => ?_)
    refine hx_aload_n C0 dX4_isFresh_16 rfl (lv_at hl 0 rfl) ?_
    refine hx_gR C0 hU hH (ci := 3) rfl in_X4 16 (by decide) q1087 (fun _ h9 => h9) h dX4_isFresh_17 (fun r_8 h => ?_)
    refine lv_iload_n hx hb dX4_isFresh_20 rfl (lv_at hl 1 rfl) ?_
    obtain ⟨b_9, rfl, h9⟩ := h
    have h := h9
    clear h9
    refine hx_aR C0 hU hH h dX4_isFresh_21 (fun r_10 h => ?_)
    refine lv_iload_n hx hb dX4_isFresh_22 rfl (lv_at hl 2 rfl) ?_
    obtain ⟨b_11, rfl, h9⟩ := h
    have h := h9
    clear h9
    refine hx_aI C0 hU hH h dX4_isFresh_23 (fun i_12 h => ?_)
    refine lv_isub hx hb dX4_isFresh_24 ?_
    refine lv_iconst (v := 5) hx hb dX4_isFresh_25 (by decide) ?_
    refine lv_icmp_ge hx hb dX4_isFresh_26 (tgt := 33) (by decide) (fun c_13 => ?_) (fun c_13 => ?_)
    · have h := h.1 c_13
      refine lv_iconst (v := 0) hx hb dX4_isFresh_33 (by decide) ?_
      exact hx_retz C0 hH hr hlocks (Or.inl rfl) h (Nat.le_of_ble_eq_true rfl) (Nat.le_of_ble_eq_true rfl) dX4_isFresh_34
    · have h := h.2 c_13
      refine lv_iconst (v := 1) hx hb dX4_isFresh_29 (by decide) ?_
      refine lv_goto hx hb dX4_isFresh_30 (tgt := 34) (by decide) ?_
      exact hx_retz C0 hH hr hlocks (Or.inr rfl) h (Nat.le_of_ble_eq_true rfl) (Nat.le_of_ble_eq_true rfl) dX4_isFresh_34
def wp_X4_isThere (w : Hp) (a0 : Nat) (x1 : Int32) (x2 : Int32) (x3 : Int32) (K : Hp → Int32 → Prop) : Prop :=
  gR w a0 3 21 fun r_1 => dR r_1 fun b_2 => aR w b_2 x1 fun r_3 => dR r_3 fun b_4 => aR w b_4 x2 fun r_5 => dR r_5 fun b_6 => aR w b_6 x3 fun r_7 => dR r_7 fun b_8 => aI w b_8 (0 : Int32) fun i_9 => br (i_9 ≤ 0) (K w (0 : Int32)) (K w (1 : Int32))
abbrev rm_X4_isThere : Room := { frames := 0, cells := 0, slots := 0, locals := 0 }
abbrev ws9_X4_isThere : List Cond := ws_ yX4_isThere cX4_isThere 4 (Option.some Jvm.ClassFile.FieldType.boolean)
abbrev Q9_X4_isThere (below : List Frame) (args : Array Value) (s : State) (G : hG) (K : Hp → Int32 → Prop) : State → Prop := MQ below (hx_Qi G K) args s 0 0 (hx_A G)
set_option maxHeartbeats 4000000 in
set_option maxRecDepth 100000 in
theorem wk_X4_isThere (l : Launch) {G : hG} {w : Hp} {a0 : Nat} {x1 : Int32} {x2 : Int32} {x3 : Int32} {K : Hp → Int32 → Prop} (h : wp_X4_isThere w a0 x1 x2 x3 K) : hx_Mi l yX4_isThere (ws9_X4_isThere) rm_X4_isThere G w [.ref a0, .int x1, .int x2, .int x3] K 0 0 := by
  refine Met.ofW (cc := cX4_isThere) (maxL := 4) (ret := (Option.some Jvm.ClassFile.FieldType.boolean)) (by decide +kernel) rfl ?_
  intro p e s m args below meth c s₁ B hml hv
  refine hx_in (own := RX4) (av := [.ref a0, .int x1, .int x2, .int x3]) (vl := [(0, va_rf (some a0)), (1, .int x1), (2, .int x2), (3, .int x3)]) rfl rfl (Nat.le_of_ble_eq_true rfl) rfl B hml hv ?_
  intro C0 hU hH hr hlocks hin ls hl
  have hx := C0.1
  have hb := C0.2.1
  have hts := C0.2.2.2.2
  refine hx_aload_n C0 dX4_isThere_0 rfl (lv_at hl 0 rfl) ?_
  refine hx_gR C0 hU hH (ci := 3) rfl in_X4 21 (by decide) q1092 (fun _ h9 => h9) h dX4_isThere_1 (fun r_1 h => ?_)
  refine lv_iload_n hx hb dX4_isThere_4 rfl (lv_at hl 1 rfl) ?_
  obtain ⟨b_2, rfl, h9⟩ := h
  have h := h9
  clear h9
  refine hx_aR C0 hU hH h dX4_isThere_5 (fun r_3 h => ?_)
  refine lv_iload_n hx hb dX4_isThere_6 rfl (lv_at hl 2 rfl) ?_
  obtain ⟨b_4, rfl, h9⟩ := h
  have h := h9
  clear h9
  refine hx_aR C0 hU hH h dX4_isThere_7 (fun r_5 h => ?_)
  refine lv_iload_n hx hb dX4_isThere_8 rfl (lv_at hl 3 rfl) ?_
  obtain ⟨b_6, rfl, h9⟩ := h
  have h := h9
  clear h9
  refine hx_aR C0 hU hH h dX4_isThere_9 (fun r_7 h => ?_)
  refine lv_iconst (v := 0) hx hb dX4_isThere_10 (by decide) ?_
  obtain ⟨b_8, rfl, h9⟩ := h
  have h := h9
  clear h9
  refine hx_aI C0 hU hH h dX4_isThere_11 (fun i_9 h => ?_)
  refine lv_if_le hx hb dX4_isThere_12 (tgt := 19) (by decide) (fun c_10 => ?_) (fun c_10 => ?_)
  · have h := h.1 c_10
    refine lv_iconst (v := 0) hx hb dX4_isThere_19 (by decide) ?_
    exact hx_retz C0 hH hr hlocks (Or.inl rfl) h (Nat.le_of_ble_eq_true rfl) (Nat.le_of_ble_eq_true rfl) dX4_isThere_20
  · have h := h.2 c_10
    refine lv_iconst (v := 1) hx hb dX4_isThere_15 (by decide) ?_
    refine lv_goto hx hb dX4_isThere_16 (tgt := 20) (by decide) ?_
    exact hx_retz C0 hH hr hlocks (Or.inr rfl) h (Nat.le_of_ble_eq_true rfl) (Nat.le_of_ble_eq_true rfl) dX4_isThere_20
def wp_X4_usable (w : Hp) (a0 : Nat) (x1 : Int32) (x2 : Int32) (K : Hp → Int32 → Prop) : Prop :=
  isO w a0 3 <| wp_X4_isThere w a0 x1 x2 (1 : Int32) fun w i_1 => br (i_1 = 0) (K w (0 : Int32)) (isO w a0 3 <| wp_X4_age w a0 x1 x2 (1 : Int32) fun w i_3 => br ((30 : Int32) ≤ i_3) (K w (0 : Int32)) (gR w a0 3 21 fun r_5 => dR r_5 fun b_6 => aR w b_6 x1 fun r_7 => dR r_7 fun b_8 => aR w b_8 x2 fun r_9 => dR r_9 fun b_10 => aR w b_10 (1 : Int32) fun r_11 => dR r_11 fun b_12 => aI w b_12 (5 : Int32) fun i_13 => br ((40 : Int32) ≤ i_13) (K w (0 : Int32)) (K w (1 : Int32))))
abbrev rm_X4_usable : Room := { frames := 1, cells := 0, slots := 0, locals := 23 }
abbrev ws9_X4_usable : List Cond := ws_ yX4_usable cX4_usable 3 (Option.some Jvm.ClassFile.FieldType.boolean)
abbrev Q9_X4_usable (below : List Frame) (args : Array Value) (s : State) (G : hG) (K : Hp → Int32 → Prop) : State → Prop := MQ below (hx_Qi G K) args s 0 0 (hx_A G)
set_option maxHeartbeats 4000000 in
set_option maxRecDepth 100000 in
theorem wk_X4_usable (l : Launch) {G : hG} {w : Hp} {a0 : Nat} {x1 : Int32} {x2 : Int32} {K : Hp → Int32 → Prop} (h : wp_X4_usable w a0 x1 x2 K) : hx_Mi l yX4_usable (ws9_X4_usable) rm_X4_usable G w [.ref a0, .int x1, .int x2] K 0 0 := by
  refine Met.ofW (cc := cX4_usable) (maxL := 3) (ret := (Option.some Jvm.ClassFile.FieldType.boolean)) (by decide +kernel) rfl ?_
  intro p e s m args below meth c s₁ B hml hv
  refine hx_in (own := RX4) (av := [.ref a0, .int x1, .int x2]) (vl := [(0, va_rf (some a0)), (1, .int x1), (2, .int x2)]) rfl rfl (Nat.le_of_ble_eq_true rfl) rfl B hml hv ?_
  intro C0 hU hH hr hlocks hin ls hl
  have hx := C0.1
  have hb := C0.2.1
  have hts := C0.2.2.2.2
  refine hx_aload_n C0 dX4_usable_0 rfl (lv_at hl 0 rfl) ?_
  refine lv_iload_n hx hb dX4_usable_1 rfl (lv_at hl 1 rfl) ?_
  refine lv_iload_n hx hb dX4_usable_2 rfl (lv_at hl 2 rfl) ?_
  refine lv_iconst (v := 1) hx hb dX4_usable_3 (by decide) ?_
  obtain ⟨ho, h⟩ := h
  refine hx_Vi C0 hU hH (As := [.int x1, .int x2, .int (1 : Int32)]) (wk_X4_isThere l h) (cwV 3 hts (lw_V q1216 q1218 qs38 q71 q1219) rfl rfl rfl (by decide +kernel) ⟨Nat.le_of_ble_eq_true rfl, Nat.le_of_ble_eq_true rfl⟩) (hx_recv hU hH (ci := 3) rfl ho) rfl hl.1 rfl (Nat.le_of_ble_eq_true rfl) dX4_usable_4 ⟨Nat.le_of_ble_eq_true rfl, Nat.le_of_ble_eq_true rfl⟩ (fun i_1 w H locs hH h => ?_)
  refine lv_if_eq hx hb dX4_usable_7 (tgt := 43) (by decide) (fun c_2 => ?_) (fun c_2 => ?_)
  · have h := h.1 c_2
    refine lv_iconst (v := 0) hx hb dX4_usable_43 (by decide) ?_
    exact hx_retz C0 hH hr hlocks (Or.inl rfl) h (Nat.le_of_ble_eq_true rfl) (Nat.le_of_ble_eq_true rfl) dX4_usable_44
  · have h := h.2 c_2
    refine hx_aload_n C0 dX4_usable_10 rfl (lv_at hl 0 rfl) ?_
    refine lv_iload_n hx hb dX4_usable_11 rfl (lv_at hl 1 rfl) ?_
    refine lv_iload_n hx hb dX4_usable_12 rfl (lv_at hl 2 rfl) ?_
    refine lv_iconst (v := 1) hx hb dX4_usable_13 (by decide) ?_
    obtain ⟨ho, h⟩ := h
    refine hx_Vi C0 hU hH (As := [.int x1, .int x2, .int (1 : Int32)]) (wk_X4_age l h) (cwV 3 hts (lw_V q1220 q1222 qs39 q71 q1223) rfl rfl rfl (by decide +kernel) ⟨Nat.le_of_ble_eq_true rfl, Nat.le_of_ble_eq_true rfl⟩) (hx_recv hU hH (ci := 3) rfl ho) rfl hl.1 rfl (Nat.le_of_ble_eq_true rfl) dX4_usable_14 ⟨Nat.le_of_ble_eq_true rfl, Nat.le_of_ble_eq_true rfl⟩ (fun i_3 w H locs hH h => ?_)
    refine lv_bipush (v := 30) hx hb dX4_usable_17 (by decide) ?_
    refine lv_icmp_ge hx hb dX4_usable_19 (tgt := 43) (by decide) (fun c_4 => ?_) (fun c_4 => ?_)
    · have h := h.1 c_4
      refine lv_iconst (v := 0) hx hb dX4_usable_43 (by decide) ?_
      exact hx_retz C0 hH hr hlocks (Or.inl rfl) h (Nat.le_of_ble_eq_true rfl) (Nat.le_of_ble_eq_true rfl) dX4_usable_44
    · have h := h.2 c_4
      refine hx_aload_n C0 dX4_usable_22 rfl (lv_at hl 0 rfl) ?_
      refine hx_gR C0 hU hH (ci := 3) rfl in_X4 21 (by decide) q1092 (fun _ h9 => h9) h dX4_usable_23 (fun r_5 h => ?_)
      refine lv_iload_n hx hb dX4_usable_26 rfl (lv_at hl 1 rfl) ?_
      obtain ⟨b_6, rfl, h9⟩ := h
      have h := h9
      clear h9
      refine hx_aR C0 hU hH h dX4_usable_27 (fun r_7 h => ?_)
      refine lv_iload_n hx hb dX4_usable_28 rfl (lv_at hl 2 rfl) ?_
      obtain ⟨b_8, rfl, h9⟩ := h
      have h := h9
      clear h9
      refine hx_aR C0 hU hH h dX4_usable_29 (fun r_9 h => ?_)
      refine lv_iconst (v := 1) hx hb dX4_usable_30 (by decide) ?_
      obtain ⟨b_10, rfl, h9⟩ := h
      have h := h9
      clear h9
      refine hx_aR C0 hU hH h dX4_usable_31 (fun r_11 h => ?_)
      refine lv_iconst (v := 5) hx hb dX4_usable_32 (by decide) ?_
      obtain ⟨b_12, rfl, h9⟩ := h
      have h := h9
      clear h9
      refine hx_aI C0 hU hH h dX4_usable_33 (fun i_13 h => ?_)
      refine lv_bipush (v := 40) hx hb dX4_usable_34 (by decide) ?_
      refine lv_icmp_ge hx hb dX4_usable_36 (tgt := 43) (by decide) (fun c_14 => ?_) (fun c_14 => ?_)
      · have h := h.1 c_14
        refine lv_iconst (v := 0) hx hb dX4_usable_43 (by decide) ?_
        exact hx_retz C0 hH hr hlocks (Or.inl rfl) h (Nat.le_of_ble_eq_true rfl) (Nat.le_of_ble_eq_true rfl) dX4_usable_44
      · have h := h.2 c_14
        refine lv_iconst (v := 1) hx hb dX4_usable_39 (by decide) ?_
        refine lv_goto hx hb dX4_usable_40 (tgt := 44) (by decide) ?_
        exact hx_retz C0 hH hr hlocks (Or.inr rfl) h (Nat.le_of_ble_eq_true rfl) (Nat.le_of_ble_eq_true rfl) dX4_usable_44
def wp_X4_send_b242 (K : Hp → Int32 → Prop)  (w : Hp) (a0 : Nat) (x1 : Int32) (x2 : Int32) (x3 : Int32) (x4 : Int32) (x6 : Int32) : Prop :=
  gR w a0 3 20 fun r_1 => dR r_1 fun b_2 => aR w b_2 x1 fun r_3 => dR r_3 fun b_4 => aR w b_4 x6 fun r_5 => gR w a0 3 19 fun r_6 => dR r_6 fun b_7 => aR w b_7 x1 fun r_8 => dR r_8 fun b_9 => aI w b_9 x6 fun i_10 => sI w b_9 x6 (i_10 + (1 : Int32)) fun w => nI_ w (3 : Int32) 3 fun w b_11 => sI w b_11 (0 : Int32) x2 fun w => sI w b_11 (1 : Int32) x3 fun w => sI w b_11 (2 : Int32) x4 fun w => dR r_5 fun b_12 => sR w b_12 i_10 (some b_11) fun w => isO w a0 3 <| wp_X4_isFresh w a0 x1 x6 fun w i_13 => br (i_13 = 0) (isO w a0 3 <| wp_X4_hello w a0 x1 x6 fun w i_15 => K w (0 : Int32)) (K w (0 : Int32))
def wp_X4_send_s191 (K : Hp → Int32 → Prop)  (bk191 : Hp → Nat → Int32 → Int32 → Int32 → Int32 → Int32 → Int32 → Prop) (w : Hp) (a0 : Nat) (x1 : Int32) (x2 : Int32) (x3 : Int32) (x4 : Int32) (x6 : Int32) (x7 : Int32) : Prop :=
  br ((3 : Int32) ≤ x7) (gR w a0 3 19 fun r_2 => dR r_2 fun b_3 => aR w b_3 x1 fun r_4 => dR r_4 fun b_5 => aI w b_5 x6 fun i_6 => sI w b_5 x6 (i_6 - (1 : Int32)) fun w => wp_X4_send_b242 K w a0 x1 x2 x3 x4 x6) (gR w a0 3 20 fun r_7 => dR r_7 fun b_8 => aR w b_8 x1 fun r_9 => dR r_9 fun b_10 => aR w b_10 x6 fun r_11 => gR w a0 3 20 fun r_12 => dR r_12 fun b_13 => aR w b_13 x1 fun r_14 => dR r_14 fun b_15 => aR w b_15 x6 fun r_16 => dR r_16 fun b_17 => aR w b_17 (x7 + (1 : Int32)) fun r_18 => dR r_11 fun b_19 => sR w b_19 x7 r_18 fun w => nm (x7 + 1) fun i_20 => bk191 w a0 x1 x2 x3 x4 x6 i_20)
def wp_X4_send_l191 (K : Hp → Int32 → Prop)  : ((Hp × Nat × Int32 × Int32 × Int32 × Int32 × Int32 × Int32) → Prop) → (Hp × Nat × Int32 × Int32 × Int32 × Int32 × Int32 × Int32) → Prop := fun bk q => wp_X4_send_s191 K  (fun w a0 x1 x2 x3 x4 x6 x7 => bk (w, a0, x1, x2, x3, x4, x6, x7)) q.1 q.2.1 q.2.2.1 q.2.2.2.1 q.2.2.2.2.1 q.2.2.2.2.2.1 q.2.2.2.2.2.2.1 q.2.2.2.2.2.2.2
def wp_X4_send_b191 (K : Hp → Int32 → Prop)  (w : Hp) (a0 : Nat) (x1 : Int32) (x2 : Int32) (x3 : Int32) (x4 : Int32) (x6 : Int32) (x7 : Int32) : Prop := lp (wp_X4_send_l191 K ) (w, a0, x1, x2, x3, x4, x6, x7)
def wp_X4_send_b155 (K : Hp → Int32 → Prop)  (w : Hp) (a0 : Nat) (x1 : Int32) (x6 : Int32) : Prop :=
  isO w a0 3 <| wp_X4_isFresh w a0 x1 x6 fun w i_1 => br (i_1 = 0) (isO w a0 3 <| wp_X4_hello w a0 x1 x6 fun w i_3 => K w (1 : Int32)) (K w (1 : Int32))
def wp_X4_send_b66 (K : Hp → Int32 → Prop)  (w : Hp) (a0 : Nat) (x1 : Int32) (x2 : Int32) (x3 : Int32) (x4 : Int32) (t0 : Int32) (at1 : Nat) : Prop :=
  isO w at1 3 <| wp_X4_isWrong w at1 t0 fun w i_1 => br (i_1 = 0) (isO w a0 3 <| wp_X4_given w a0 x1 x3 fun w i_3 => br (i_3 = (-1 : Int32)) (K w (-1 : Int32)) (isO w a0 3 <| wp_X4_usable w a0 x1 i_3 fun w i_5 => br (i_5 = 0) (gR w a0 3 19 fun r_7 => dR r_7 fun b_8 => aR w b_8 x1 fun r_9 => dR r_9 fun b_10 => aI w b_10 i_3 fun i_11 => br (i_11 = (4 : Int32)) (wp_X4_send_b191 K w a0 x1 x2 x3 x4 i_3 (0 : Int32)) (wp_X4_send_b242 K w a0 x1 x2 x3 x4 i_3)) (isO w a0 3 <| wp_X4_data w a0 x1 i_3 x2 x3 x4 fun w => gR w a0 3 21 fun r_13 => dR r_13 fun b_14 => aR w b_14 x1 fun r_15 => dR r_15 fun b_16 => aR w b_16 i_3 fun r_17 => dR r_17 fun b_18 => aR w b_18 (1 : Int32) fun r_19 => dR r_19 fun b_20 => aI w b_20 (6 : Int32) fun i_21 => br (i_21 = (1 : Int32)) (isO w a0 3 <| wp_X4_age w a0 x1 i_3 (1 : Int32) fun w i_23 => br ((20 : Int32) ≤ i_23) (wp_X4_send_b155 K w a0 x1 i_3) (aI w b_20 (5 : Int32) fun i_25 => br (i_25 < (30 : Int32)) (K w (1 : Int32)) (wp_X4_send_b155 K w a0 x1 i_3))) (K w (1 : Int32))))) (K w (0 : Int32))
def wp_X4_send_b42 (K : Hp → Int32 → Prop)  (w : Hp) (a0 : Nat) (x1 : Int32) (x2 : Int32) (x3 : Int32) (x4 : Int32) (t0 : Int32) : Prop :=
  wp_X4_isEnd w x1 fun w i_1 => br (i_1 = 0) (wp_X4_send_b66 K w a0 x1 x2 x3 x4 (1 : Int32) a0) (br (t0 = 0) (wp_X4_send_b66 K w a0 x1 x2 x3 x4 (2 : Int32) a0) (wp_X4_send_b66 K w a0 x1 x2 x3 x4 (0 : Int32) a0))
def wp_X4_send_b41 (K : Hp → Int32 → Prop)  (w : Hp) (a0 : Nat) (x1 : Int32) (x2 : Int32) (x3 : Int32) (x4 : Int32) : Prop :=
  wp_X4_send_b42 K w a0 x1 x2 x3 x4 (0 : Int32)
def wp_X4_send (w : Hp) (a0 : Nat) (x1 : Int32) (x2 : Int32) (x3 : Int32) (x4 : Int32) (K : Hp → Int32 → Prop) : Prop :=
  wp_X4_isBetween w (x2.toInt64) (0 : Int64) (255 : Int64) fun w i_1 => br (i_1 = 0) (wp_X4_send_b41 K w a0 x1 x2 x3 x4) (wp_X4_isBetween w (x3.toInt64) (0 : Int64) (255 : Int64) fun w i_3 => br (i_3 = 0) (wp_X4_send_b41 K w a0 x1 x2 x3 x4) (wp_X4_isBetween w (x4.toInt64) (0 : Int64) (9999 : Int64) fun w i_5 => br (i_5 = 0) (wp_X4_send_b41 K w a0 x1 x2 x3 x4) (wp_X4_send_b42 K w a0 x1 x2 x3 x4 (1 : Int32))))
abbrev rm_X4_send : Room := { frames := 5, cells := 8, slots := 61, locals := 116 }
abbrev ws9_X4_send : List Cond := ws_ yX4_send cX4_send 8 (Option.some Jvm.ClassFile.FieldType.int)
abbrev Q9_X4_send (below : List Frame) (args : Array Value) (s : State) (G : hG) (K : Hp → Int32 → Prop) : State → Prop := MQ below (hx_Qi G K) args s 8 61 (hx_A G)
set_option maxHeartbeats 4000000 in
set_option maxRecDepth 100000 in
theorem wk_X4_send (l : Launch) {G : hG} {w : Hp} {a0 : Nat} {x1 : Int32} {x2 : Int32} {x3 : Int32} {x4 : Int32} {K : Hp → Int32 → Prop} (h : wp_X4_send w a0 x1 x2 x3 x4 K) : hx_Mi l yX4_send (ws9_X4_send) rm_X4_send G w [.ref a0, .int x1, .int x2, .int x3, .int x4] K 8 61 := by
  refine Met.ofW (cc := cX4_send) (maxL := 8) (ret := (Option.some Jvm.ClassFile.FieldType.int)) (by decide +kernel) rfl ?_
  intro p e s m args below meth c s₁ B hml hv
  refine hx_in (own := RX4) (av := [.ref a0, .int x1, .int x2, .int x3, .int x4]) (vl := [(0, va_rf (some a0)), (1, .int x1), (2, .int x2), (3, .int x3), (4, .int x4)]) rfl rfl (Nat.le_of_ble_eq_true rfl) rfl B hml hv ?_
  intro C0 hU hH hr hlocks hin ls hl
  have hx := C0.1
  have hb := C0.2.1
  have hts := C0.2.2.2.2
  have b242 : ∀ (w : Hp) (a0 : Nat) (x1 : Int32) (x2 : Int32) (x3 : Int32) (x4 : Int32) (x6 : Int32), wp_X4_send_b242 K  w a0 x1 x2 x3 x4 x6 → ∀ (H : Heap) (locs : List Loc) (ls : Array Slot), hx_H G w s H locs → lv_has ls 8 [(0, va_rf (some a0)), (1, .int x1), (2, .int x2), (3, .int x3), (4, .int x4), (6, .int x6)] → W p l e (headSpec (ws9_X4_send) rm_X4_send).room s m args below meth c H locs (0) (0) (Q9_X4_send below args s G K) (F0 m 242 ls []) := by
    intro w a0 x1 x2 x3 x4 x6 h H locs ls hH hl
    refine hx_aload_n C0 dX4_send_242 rfl (lv_at hl 0 rfl) ?_
    refine hx_gR C0 hU hH (ci := 3) rfl in_X4 20 (by decide) q1091 (fun _ h9 => h9) h dX4_send_243 (fun r_1 h => ?_)
    refine lv_iload_n hx hb dX4_send_246 rfl (lv_at hl 1 rfl) ?_
    obtain ⟨b_2, rfl, h9⟩ := h
    have h := h9
    clear h9
    refine hx_aR C0 hU hH h dX4_send_247 (fun r_3 h => ?_)
    refine lv_iload hx hb dX4_send_248 (lv_at hl 5 rfl) ?_
    obtain ⟨b_4, rfl, h9⟩ := h
    have h := h9
    clear h9
    refine hx_aR C0 hU hH h dX4_send_250 (fun r_5 h => ?_)
    refine hx_aload_n C0 dX4_send_251 rfl (lv_at hl 0 rfl) ?_
    refine hx_gR C0 hU hH (ci := 3) rfl in_X4 19 (by decide) q1090 (fun _ h9 => h9) h dX4_send_252 (fun r_6 h => ?_)
    refine lv_iload_n hx hb dX4_send_255 rfl (lv_at hl 1 rfl) ?_
    obtain ⟨b_7, rfl, h9⟩ := h
    have h := h9
    clear h9
    refine hx_aR C0 hU hH h dX4_send_256 (fun r_8 h => ?_)
    refine lv_iload hx hb dX4_send_257 (lv_at hl 5 rfl) ?_
    refine lv_dup2_11 hx hb dX4_send_259 rfl (hx_rfc _) ?_
    obtain ⟨b_9, rfl, h9⟩ := h
    have h := h9
    clear h9
    refine hx_aI C0 hU hH h dX4_send_260 (fun i_10 h => ?_)
    refine lv_dup_x2 hx hb dX4_send_261 rfl rfl rfl ?_
    refine lv_iconst (v := 1) hx hb dX4_send_262 (by decide) ?_
    refine lv_iadd hx hb dX4_send_263 ?_
    refine hx_sI C0 hU hH h dX4_send_264 (fun w H locs hH h => ?_)
    refine lv_iconst (v := 3) hx hb dX4_send_265 (by decide) ?_
    refine hx_nI C0 hU hH (Nat.le_of_ble_eq_true rfl) (Nat.le_of_ble_eq_true rfl) (Nat.le_of_ble_eq_true rfl) h dX4_send_266 (fun b_11 w H locs hH h => ?_)
    refine lv_dup hx hb dX4_send_268 rfl ?_
    refine lv_iconst (v := 0) hx hb dX4_send_269 (by decide) ?_
    refine lv_iload_n hx hb dX4_send_270 rfl (lv_at hl 2 rfl) ?_
    refine hx_sI C0 hU hH h dX4_send_271 (fun w H locs hH h => ?_)
    refine lv_dup hx hb dX4_send_272 rfl ?_
    refine lv_iconst (v := 1) hx hb dX4_send_273 (by decide) ?_
    refine lv_iload_n hx hb dX4_send_274 rfl (lv_at hl 3 rfl) ?_
    refine hx_sI C0 hU hH h dX4_send_275 (fun w H locs hH h => ?_)
    refine lv_dup hx hb dX4_send_276 rfl ?_
    refine lv_iconst (v := 2) hx hb dX4_send_277 (by decide) ?_
    refine lv_iload hx hb dX4_send_278 (lv_at hl 4 rfl) ?_
    refine hx_sI C0 hU hH h dX4_send_280 (fun w H locs hH h => ?_)
    obtain ⟨b_12, rfl, h9⟩ := h
    have h := h9
    clear h9
    refine hx_sR C0 hU hH h dX4_send_281 (fun w H locs hH h => ?_)
    refine hx_aload_n C0 dX4_send_282 rfl (lv_at hl 0 rfl) ?_
    refine lv_iload_n hx hb dX4_send_283 rfl (lv_at hl 1 rfl) ?_
    refine lv_iload hx hb dX4_send_284 (lv_at hl 5 rfl) ?_
    obtain ⟨ho, h⟩ := h
    refine hx_Vi C0 hU hH (As := [.int x1, .int x6]) (wk_X4_isFresh l h) (cwV 2 hts (lw_V q1239 q1241 qs42 q71 q1242) rfl rfl rfl (by decide +kernel) ⟨Nat.le_of_ble_eq_true rfl, Nat.le_of_ble_eq_true rfl⟩) (hx_recv hU hH (ci := 3) rfl ho) rfl hl.1 rfl (Nat.le_of_ble_eq_true rfl) dX4_send_286 ⟨Nat.le_of_ble_eq_true rfl, Nat.le_of_ble_eq_true rfl⟩ (fun i_13 w H locs hH h => ?_)
    refine lv_if_ne hx hb dX4_send_289 (tgt := 300) (by decide) (fun c_14 => ?_) (fun c_14 => ?_)
    · have h := h.2 c_14
      refine lv_iconst (v := 0) hx hb dX4_send_300 (by decide) ?_
      exact hx_reti C0 hH hr hlocks h (Nat.le_of_ble_eq_true rfl) (Nat.le_of_ble_eq_true rfl) dX4_send_301
    · have h := h.1 c_14
      refine hx_aload_n C0 dX4_send_292 rfl (lv_at hl 0 rfl) ?_
      refine lv_iload_n hx hb dX4_send_293 rfl (lv_at hl 1 rfl) ?_
      refine lv_iload hx hb dX4_send_294 (lv_at hl 5 rfl) ?_
      obtain ⟨ho, h⟩ := h
      refine hx_Vi C0 hU hH (As := [.int x1, .int x6]) (wk_X4_hello l h) (cwV 2 hts (lw_V q1243 q1245 qs43 q71 q1246) rfl rfl rfl (by decide +kernel) ⟨Nat.le_of_ble_eq_true rfl, Nat.le_of_ble_eq_true rfl⟩) (hx_recv hU hH (ci := 3) rfl ho) rfl hl.1 rfl (Nat.le_of_ble_eq_true rfl) dX4_send_296 ⟨Nat.le_of_ble_eq_true rfl, Nat.le_of_ble_eq_true rfl⟩ (fun i_15 w H locs hH h => ?_)
      refine lv_pop hx hb dX4_send_299 rfl ?_
      refine lv_iconst (v := 0) hx hb dX4_send_300 (by decide) ?_
      exact hx_reti C0 hH hr hlocks h (Nat.le_of_ble_eq_true rfl) (Nat.le_of_ble_eq_true rfl) dX4_send_301
  have L191 : ∀ (n191 : Nat) (w : Hp) (a0 : Nat) (x1 : Int32) (x2 : Int32) (x3 : Int32) (x4 : Int32) (x6 : Int32) (x7 : Int32), lpN (wp_X4_send_l191 K ) n191 (w, a0, x1, x2, x3, x4, x6, x7) → ∀ (H : Heap) (locs : List Loc) (ls : Array Slot), hx_H G w s H locs → lv_has ls 8 [(0, va_rf (some a0)), (1, .int x1), (2, .int x2), (3, .int x3), (4, .int x4), (6, .int x6), (7, .int x7)] → W p l e (headSpec (ws9_X4_send) rm_X4_send).room s m args below meth c H locs (0) (0) (Q9_X4_send below args s G K) (F0 m 191 ls []) := by
    intro n191
    induction n191 with
    | zero => intro w a0 x1 x2 x3 x4 x6 x7 h; exact h.elim
    | succ n191 ih191 =>
      intro w a0 x1 x2 x3 x4 x6 x7 h H locs ls hH hl
      have h : wp_X4_send_s191 K  (fun w a0 x1 x2 x3 x4 x6 x7 => lpN (wp_X4_send_l191 K ) n191 (w, a0, x1, x2, x3, x4, x6, x7)) w a0 x1 x2 x3 x4 x6 x7 := h
      refine lv_iload hx hb dX4_send_191 (lv_at hl 6 rfl) ?_
      refine lv_iconst (v := 3) hx hb dX4_send_193 (by decide) ?_
      refine lv_icmp_ge hx hb dX4_send_194 (tgt := 229) (by decide) (fun c_1 => ?_) (fun c_1 => ?_)
      · have h := h.1 c_1
        refine hx_aload_n C0 dX4_send_229 rfl (lv_at hl 0 rfl) ?_
        refine hx_gR C0 hU hH (ci := 3) rfl in_X4 19 (by decide) q1090 (fun _ h9 => h9) h dX4_send_230 (fun r_2 h => ?_)
        refine lv_iload_n hx hb dX4_send_233 rfl (lv_at hl 1 rfl) ?_
        obtain ⟨b_3, rfl, h9⟩ := h
        have h := h9
        clear h9
        refine hx_aR C0 hU hH h dX4_send_234 (fun r_4 h => ?_)
        refine lv_iload hx hb dX4_send_235 (lv_at hl 5 rfl) ?_
        refine lv_dup2_11 hx hb dX4_send_237 rfl (hx_rfc _) ?_
        obtain ⟨b_5, rfl, h9⟩ := h
        have h := h9
        clear h9
        refine hx_aI C0 hU hH h dX4_send_238 (fun i_6 h => ?_)
        refine lv_iconst (v := 1) hx hb dX4_send_239 (by decide) ?_
        refine lv_isub hx hb dX4_send_240 ?_
        refine hx_sI C0 hU hH h dX4_send_241 (fun w H locs hH h => ?_)
        refine W.widen (k := 0) (n := 0) (Nat.le_of_ble_eq_true rfl) (Nat.le_of_ble_eq_true rfl) ?_
        exact b242 _ _ _ _ _ _ _ h _ _ _ hH (lv_sub hl [0, 1, 2, 3, 4, 5] rfl)
      · have h := h.2 c_1
        refine hx_aload_n C0 dX4_send_197 rfl (lv_at hl 0 rfl) ?_
        refine hx_gR C0 hU hH (ci := 3) rfl in_X4 20 (by decide) q1091 (fun _ h9 => h9) h dX4_send_198 (fun r_7 h => ?_)
        refine lv_iload_n hx hb dX4_send_201 rfl (lv_at hl 1 rfl) ?_
        obtain ⟨b_8, rfl, h9⟩ := h
        have h := h9
        clear h9
        refine hx_aR C0 hU hH h dX4_send_202 (fun r_9 h => ?_)
        refine lv_iload hx hb dX4_send_203 (lv_at hl 5 rfl) ?_
        obtain ⟨b_10, rfl, h9⟩ := h
        have h := h9
        clear h9
        refine hx_aR C0 hU hH h dX4_send_205 (fun r_11 h => ?_)
        refine lv_iload hx hb dX4_send_206 (lv_at hl 6 rfl) ?_
        refine hx_aload_n C0 dX4_send_208 rfl (lv_at hl 0 rfl) ?_
        refine hx_gR C0 hU hH (ci := 3) rfl in_X4 20 (by decide) q1091 (fun _ h9 => h9) h dX4_send_209 (fun r_12 h => ?_)
        refine lv_iload_n hx hb dX4_send_212 rfl (lv_at hl 1 rfl) ?_
        obtain ⟨b_13, rfl, h9⟩ := h
        have h := h9
        clear h9
        refine hx_aR C0 hU hH h dX4_send_213 (fun r_14 h => ?_)
        refine lv_iload hx hb dX4_send_214 (lv_at hl 5 rfl) ?_
        obtain ⟨b_15, rfl, h9⟩ := h
        have h := h9
        clear h9
        refine hx_aR C0 hU hH h dX4_send_216 (fun r_16 h => ?_)
        refine lv_iload hx hb dX4_send_217 (lv_at hl 6 rfl) ?_
        refine lv_iconst (v := 1) hx hb dX4_send_219 (by decide) ?_
        refine lv_iadd hx hb dX4_send_220 ?_
        obtain ⟨b_17, rfl, h9⟩ := h
        have h := h9
        clear h9
        refine hx_aR C0 hU hH h dX4_send_221 (fun r_18 h => ?_)
        obtain ⟨b_19, rfl, h9⟩ := h
        have h := h9
        clear h9
        refine hx_sR C0 hU hH h dX4_send_222 (fun w H locs hH h => ?_)
        obtain ⟨i_20, ei_20⟩ : ∃ z, z = x7 + 1 := ⟨_, rfl⟩
        have h := h i_20 ei_20
        refine lv_iinc (k := 6) hx hb dX4_send_223 hl rfl (v := i_20) (by rw [ei_20]; rfl) (by decide) (lv' := [(7, .int i_20), (0, va_rf (some a0)), (1, .int x1), (2, .int x2), (3, .int x3), (4, .int x4), (6, .int x6)]) rfl (fun ls hl => ?_)
        refine lv_goto hx hb dX4_send_226 (tgt := 191) (by decide) ?_
        refine W.widen (k := 0) (n := 0) (Nat.le_of_ble_eq_true rfl) (Nat.le_of_ble_eq_true rfl) ?_
        exact ih191 _ _ _ _ _ _ _ _ h _ _ _ hH (lv_sub hl [1, 2, 3, 4, 5, 6, 0] rfl)
  have b155 : ∀ (w : Hp) (a0 : Nat) (x1 : Int32) (x6 : Int32), wp_X4_send_b155 K  w a0 x1 x6 → ∀ (H : Heap) (locs : List Loc) (ls : Array Slot), hx_H G w s H locs → lv_has ls 8 [(0, va_rf (some a0)), (1, .int x1), (6, .int x6)] → W p l e (headSpec (ws9_X4_send) rm_X4_send).room s m args below meth c H locs (3) (28) (Q9_X4_send below args s G K) (F0 m 155 ls []) := by
    intro w a0 x1 x6 h H locs ls hH hl
    refine hx_aload_n C0 dX4_send_155 rfl (lv_at hl 0 rfl) ?_
    refine lv_iload_n hx hb dX4_send_156 rfl (lv_at hl 1 rfl) ?_
    refine lv_iload hx hb dX4_send_157 (lv_at hl 2 rfl) ?_
    obtain ⟨ho, h⟩ := h
    refine hx_Vi C0 hU hH (As := [.int x1, .int x6]) (wk_X4_isFresh l h) (cwV 2 hts (lw_V q1239 q1241 qs42 q71 q1242) rfl rfl rfl (by decide +kernel) ⟨Nat.le_of_ble_eq_true rfl, Nat.le_of_ble_eq_true rfl⟩) (hx_recv hU hH (ci := 3) rfl ho) rfl hl.1 rfl (Nat.le_of_ble_eq_true rfl) dX4_send_159 ⟨Nat.le_of_ble_eq_true rfl, Nat.le_of_ble_eq_true rfl⟩ (fun i_1 w H locs hH h => ?_)
    refine lv_if_ne hx hb dX4_send_162 (tgt := 173) (by decide) (fun c_2 => ?_) (fun c_2 => ?_)
    · have h := h.2 c_2
      refine lv_iconst (v := 1) hx hb dX4_send_173 (by decide) ?_
      exact hx_reti C0 hH hr hlocks h (Nat.le_of_ble_eq_true rfl) (Nat.le_of_ble_eq_true rfl) dX4_send_174
    · have h := h.1 c_2
      refine hx_aload_n C0 dX4_send_165 rfl (lv_at hl 0 rfl) ?_
      refine lv_iload_n hx hb dX4_send_166 rfl (lv_at hl 1 rfl) ?_
      refine lv_iload hx hb dX4_send_167 (lv_at hl 2 rfl) ?_
      obtain ⟨ho, h⟩ := h
      refine hx_Vi C0 hU hH (As := [.int x1, .int x6]) (wk_X4_hello l h) (cwV 2 hts (lw_V q1243 q1245 qs43 q71 q1246) rfl rfl rfl (by decide +kernel) ⟨Nat.le_of_ble_eq_true rfl, Nat.le_of_ble_eq_true rfl⟩) (hx_recv hU hH (ci := 3) rfl ho) rfl hl.1 rfl (Nat.le_of_ble_eq_true rfl) dX4_send_169 ⟨Nat.le_of_ble_eq_true rfl, Nat.le_of_ble_eq_true rfl⟩ (fun i_3 w H locs hH h => ?_)
      refine lv_pop hx hb dX4_send_172 rfl ?_
      refine lv_iconst (v := 1) hx hb dX4_send_173 (by decide) ?_
      exact hx_reti C0 hH hr hlocks h (Nat.le_of_ble_eq_true rfl) (Nat.le_of_ble_eq_true rfl) dX4_send_174
  have b66 : ∀ (w : Hp) (a0 : Nat) (x1 : Int32) (x2 : Int32) (x3 : Int32) (x4 : Int32) (t0 : Int32) (at1 : Nat), wp_X4_send_b66 K  w a0 x1 x2 x3 x4 t0 at1 → ∀ (H : Heap) (locs : List Loc) (ls : Array Slot), hx_H G w s H locs → lv_has ls 8 [(0, va_rf (some a0)), (1, .int x1), (2, .int x2), (3, .int x3), (4, .int x4)] → W p l e (headSpec (ws9_X4_send) rm_X4_send).room s m args below meth c H locs (0) (0) (Q9_X4_send below args s G K) (F0 m 66 ls [.int t0, va_rf (some at1)]) := by
    intro w a0 x1 x2 x3 x4 t0 at1 h H locs ls hH hl
    obtain ⟨ho, h⟩ := h
    refine hx_Vi C0 hU hH (As := [.int t0]) (wk_X4_isWrong l h) (cwV 1 hts (lw_V q1166 q1168 qs34 q71 q1169) rfl rfl rfl (by decide +kernel) ⟨Nat.le_of_ble_eq_true rfl, Nat.le_of_ble_eq_true rfl⟩) (hx_recv hU hH (ci := 3) rfl ho) rfl hl.1 rfl (Nat.le_of_ble_eq_true rfl) dX4_send_66 ⟨Nat.le_of_ble_eq_true rfl, Nat.le_of_ble_eq_true rfl⟩ (fun i_1 w H locs hH h => ?_)
    refine lv_if_eq hx hb dX4_send_69 (tgt := 74) (by decide) (fun c_2 => ?_) (fun c_2 => ?_)
    · have h := h.1 c_2
      refine hx_aload_n C0 dX4_send_74 rfl (lv_at hl 0 rfl) ?_
      refine lv_iload_n hx hb dX4_send_75 rfl (lv_at hl 1 rfl) ?_
      refine lv_iload_n hx hb dX4_send_76 rfl (lv_at hl 3 rfl) ?_
      obtain ⟨ho, h⟩ := h
      refine hx_Vi C0 hU hH (As := [.int x1, .int x3]) (wk_X4_given l h) (cwV 2 hts (lw_V q1208 q1210 qs36 q71 q1211) rfl rfl rfl (by decide +kernel) ⟨Nat.le_of_ble_eq_true rfl, Nat.le_of_ble_eq_true rfl⟩) (hx_recv hU hH (ci := 3) rfl ho) rfl hl.1 rfl (Nat.le_of_ble_eq_true rfl) dX4_send_77 ⟨Nat.le_of_ble_eq_true rfl, Nat.le_of_ble_eq_true rfl⟩ (fun i_3 w H locs hH h => ?_)
      refine lv_istore hx hb dX4_send_80 hl (by decide) (lv' := [(6, .int i_3), (0, va_rf (some a0)), (1, .int x1), (2, .int x2), (3, .int x3), (4, .int x4)]) rfl (fun ls hl => ?_)
      refine lv_iload hx hb dX4_send_82 (lv_at hl 0 rfl) ?_
      refine lv_iconst (v := -1) hx hb dX4_send_84 (by decide) ?_
      refine lv_icmp_ne hx hb dX4_send_85 (tgt := 90) (by decide) (fun c_4 => ?_) (fun c_4 => ?_)
      · have h := h.2 c_4
        refine hx_aload_n C0 dX4_send_90 rfl (lv_at hl 1 rfl) ?_
        refine lv_iload_n hx hb dX4_send_91 rfl (lv_at hl 2 rfl) ?_
        refine lv_iload hx hb dX4_send_92 (lv_at hl 0 rfl) ?_
        obtain ⟨ho, h⟩ := h
        refine hx_Vi C0 hU hH (As := [.int x1, .int i_3]) (wk_X4_usable l h) (cwV 2 hts (lw_V q1212 q1214 qs37 q71 q1215) rfl rfl rfl (by decide +kernel) ⟨Nat.le_of_ble_eq_true rfl, Nat.le_of_ble_eq_true rfl⟩) (hx_recv hU hH (ci := 3) rfl ho) rfl hl.1 rfl (Nat.le_of_ble_eq_true rfl) dX4_send_94 ⟨Nat.le_of_ble_eq_true rfl, Nat.le_of_ble_eq_true rfl⟩ (fun i_5 w H locs hH h => ?_)
        refine lv_if_eq hx hb dX4_send_97 (tgt := 175) (by decide) (fun c_6 => ?_) (fun c_6 => ?_)
        · have h := h.1 c_6
          refine hx_aload_n C0 dX4_send_175 rfl (lv_at hl 1 rfl) ?_
          refine hx_gR C0 hU hH (ci := 3) rfl in_X4 19 (by decide) q1090 (fun _ h9 => h9) h dX4_send_176 (fun r_7 h => ?_)
          refine lv_iload_n hx hb dX4_send_179 rfl (lv_at hl 2 rfl) ?_
          obtain ⟨b_8, rfl, h9⟩ := h
          have h := h9
          clear h9
          refine hx_aR C0 hU hH h dX4_send_180 (fun r_9 h => ?_)
          refine lv_iload hx hb dX4_send_181 (lv_at hl 0 rfl) ?_
          obtain ⟨b_10, rfl, h9⟩ := h
          have h := h9
          clear h9
          refine hx_aI C0 hU hH h dX4_send_183 (fun i_11 h => ?_)
          refine lv_iconst (v := 4) hx hb dX4_send_184 (by decide) ?_
          refine lv_icmp_ne hx hb dX4_send_185 (tgt := 242) (by decide) (fun c_12 => ?_) (fun c_12 => ?_)
          · have h := h.2 c_12
            refine W.widen (k := 0) (n := 0) (Nat.le_of_ble_eq_true rfl) (Nat.le_of_ble_eq_true rfl) ?_
            exact b242 _ _ _ _ _ _ _ h _ _ _ hH (lv_sub hl [1, 2, 3, 4, 5, 0] rfl)
          · have h := h.1 c_12
            refine lv_iconst (v := 0) hx hb dX4_send_188 (by decide) ?_
            refine lv_istore hx hb dX4_send_189 hl (by decide) (lv' := [(7, .int (0 : Int32)), (6, .int i_3), (0, va_rf (some a0)), (1, .int x1), (2, .int x2), (3, .int x3), (4, .int x4)]) rfl (fun ls hl => ?_)
            obtain ⟨n9, h⟩ := h
            refine W.widen (k := 0) (n := 0) (Nat.le_of_ble_eq_true rfl) (Nat.le_of_ble_eq_true rfl) ?_
            exact L191 n9 _ _ _ _ _ _ _ _ h _ _ _ hH (lv_sub hl [2, 3, 4, 5, 6, 1, 0] rfl)
        · have h := h.2 c_6
          refine hx_aload_n C0 dX4_send_100 rfl (lv_at hl 1 rfl) ?_
          refine lv_iload_n hx hb dX4_send_101 rfl (lv_at hl 2 rfl) ?_
          refine lv_iload hx hb dX4_send_102 (lv_at hl 0 rfl) ?_
          refine lv_iload_n hx hb dX4_send_104 rfl (lv_at hl 3 rfl) ?_
          refine lv_iload_n hx hb dX4_send_105 rfl (lv_at hl 4 rfl) ?_
          refine lv_iload hx hb dX4_send_106 (lv_at hl 5 rfl) ?_
          obtain ⟨ho, h⟩ := h
          refine hx_Vv C0 hU hH (As := [.int x1, .int i_3, .int x2, .int x3, .int x4]) (wk_X4_data l h) (cwV 5 hts (lw_V q1224 q1226 qs40 q71 q1227) rfl rfl rfl (by decide +kernel) ⟨Nat.le_of_ble_eq_true rfl, Nat.le_of_ble_eq_true rfl⟩) (hx_recv hU hH (ci := 3) rfl ho) rfl hl.1 rfl (Nat.le_of_ble_eq_true rfl) dX4_send_108 ⟨Nat.le_of_ble_eq_true rfl, Nat.le_of_ble_eq_true rfl⟩ (fun w H locs hH h => ?_)
          refine hx_aload_n C0 dX4_send_111 rfl (lv_at hl 1 rfl) ?_
          refine hx_gR C0 hU hH (ci := 3) rfl in_X4 21 (by decide) q1092 (fun _ h9 => h9) h dX4_send_112 (fun r_13 h => ?_)
          refine lv_iload_n hx hb dX4_send_115 rfl (lv_at hl 2 rfl) ?_
          obtain ⟨b_14, rfl, h9⟩ := h
          have h := h9
          clear h9
          refine hx_aR C0 hU hH h dX4_send_116 (fun r_15 h => ?_)
          refine lv_iload hx hb dX4_send_117 (lv_at hl 0 rfl) ?_
          obtain ⟨b_16, rfl, h9⟩ := h
          have h := h9
          clear h9
          refine hx_aR C0 hU hH h dX4_send_119 (fun r_17 h => ?_)
          refine lv_iconst (v := 1) hx hb dX4_send_120 (by decide) ?_
          obtain ⟨b_18, rfl, h9⟩ := h
          have h := h9
          clear h9
          refine hx_aR C0 hU hH h dX4_send_121 (fun r_19 h => ?_)
          refine hx_astore C0 dX4_send_122 hl (by decide) (lv' := [(7, va_rf r_19), (6, .int i_3), (0, va_rf (some a0)), (1, .int x1), (2, .int x2), (3, .int x3), (4, .int x4)]) rfl (fun ls hl => ?_)
          refine hx_aload C0 dX4_send_124 (lv_at hl 0 rfl) ?_
          refine lv_bipush (v := 6) hx hb dX4_send_126 (by decide) ?_
          obtain ⟨b_20, rfl, h9⟩ := h
          have h := h9
          clear h9
          refine hx_aI C0 hU hH h dX4_send_128 (fun i_21 h => ?_)
          refine lv_iconst (v := 1) hx hb dX4_send_129 (by decide) ?_
          refine lv_icmp_ne hx hb dX4_send_130 (tgt := 173) (by decide) (fun c_22 => ?_) (fun c_22 => ?_)
          · have h := h.2 c_22
            refine lv_iconst (v := 1) hx hb dX4_send_173 (by decide) ?_
            exact hx_reti C0 hH hr hlocks h (Nat.le_of_ble_eq_true rfl) (Nat.le_of_ble_eq_true rfl) dX4_send_174
          · have h := h.1 c_22
            refine hx_aload_n C0 dX4_send_133 rfl (lv_at hl 2 rfl) ?_
            refine lv_iload_n hx hb dX4_send_134 rfl (lv_at hl 3 rfl) ?_
            refine lv_iload hx hb dX4_send_135 (lv_at hl 1 rfl) ?_
            refine lv_iconst (v := 1) hx hb dX4_send_137 (by decide) ?_
            obtain ⟨ho, h⟩ := h
            refine hx_Vi C0 hU hH (As := [.int x1, .int i_3, .int (1 : Int32)]) (wk_X4_age l h) (cwV 3 hts (lw_V q1220 q1222 qs39 q71 q1223) rfl rfl rfl (by decide +kernel) ⟨Nat.le_of_ble_eq_true rfl, Nat.le_of_ble_eq_true rfl⟩) (hx_recv hU hH (ci := 3) rfl ho) rfl hl.1 rfl (Nat.le_of_ble_eq_true rfl) dX4_send_138 ⟨Nat.le_of_ble_eq_true rfl, Nat.le_of_ble_eq_true rfl⟩ (fun i_23 w H locs hH h => ?_)
            refine lv_bipush (v := 20) hx hb dX4_send_141 (by decide) ?_
            refine lv_icmp_ge hx hb dX4_send_143 (tgt := 155) (by decide) (fun c_24 => ?_) (fun c_24 => ?_)
            · have h := h.1 c_24
              refine W.widen (k := 3) (n := 28) (Nat.le_of_ble_eq_true rfl) (Nat.le_of_ble_eq_true rfl) ?_
              exact b155 _ _ _ _ h _ _ _ hH (lv_sub hl [2, 3, 1] rfl)
            · have h := h.2 c_24
              refine hx_aload C0 dX4_send_146 (lv_at hl 0 rfl) ?_
              refine lv_iconst (v := 5) hx hb dX4_send_148 (by decide) ?_
              refine hx_aI C0 hU hH h dX4_send_149 (fun i_25 h => ?_)
              refine lv_bipush (v := 30) hx hb dX4_send_150 (by decide) ?_
              refine lv_icmp_lt hx hb dX4_send_152 (tgt := 173) (by decide) (fun c_26 => ?_) (fun c_26 => ?_)
              · have h := h.1 c_26
                refine lv_iconst (v := 1) hx hb dX4_send_173 (by decide) ?_
                exact hx_reti C0 hH hr hlocks h (Nat.le_of_ble_eq_true rfl) (Nat.le_of_ble_eq_true rfl) dX4_send_174
              · have h := h.2 c_26
                refine W.widen (k := 3) (n := 28) (Nat.le_of_ble_eq_true rfl) (Nat.le_of_ble_eq_true rfl) ?_
                exact b155 _ _ _ _ h _ _ _ hH (lv_sub hl [2, 3, 1] rfl)
      · have h := h.1 c_4
        refine lv_iconst (v := -1) hx hb dX4_send_88 (by decide) ?_
        exact hx_reti C0 hH hr hlocks h (Nat.le_of_ble_eq_true rfl) (Nat.le_of_ble_eq_true rfl) dX4_send_89
    · have h := h.2 c_2
      refine lv_iconst (v := 0) hx hb dX4_send_72 (by decide) ?_
      exact hx_reti C0 hH hr hlocks h (Nat.le_of_ble_eq_true rfl) (Nat.le_of_ble_eq_true rfl) dX4_send_73
  have b42 : ∀ (w : Hp) (a0 : Nat) (x1 : Int32) (x2 : Int32) (x3 : Int32) (x4 : Int32) (t0 : Int32), wp_X4_send_b42 K  w a0 x1 x2 x3 x4 t0 → ∀ (H : Heap) (locs : List Loc) (ls : Array Slot), hx_H G w s H locs → lv_has ls 8 [(0, va_rf (some a0)), (1, .int x1), (2, .int x2), (3, .int x3), (4, .int x4)] → W p l e (headSpec (ws9_X4_send) rm_X4_send).room s m args below meth c H locs (0) (0) (Q9_X4_send below args s G K) (F0 m 42 ls [.int t0]) := by
    intro w a0 x1 x2 x3 x4 t0 h H locs ls hH hl
    refine lv_istore hx hb dX4_send_42 hl (by decide) (lv' := [(5, .int t0), (0, va_rf (some a0)), (1, .int x1), (2, .int x2), (3, .int x3), (4, .int x4)]) rfl (fun ls hl => ?_)
    refine hx_aload_n C0 dX4_send_44 rfl (lv_at hl 1 rfl) ?_
    refine lv_iload_n hx hb dX4_send_45 rfl (lv_at hl 2 rfl) ?_
    refine hx_Si C0 hU hH (As := [.int x1]) (wk_X4_isEnd l h) (va_cwS 1 hts (lw_S q1175 q1176 q71 q1177) rfl rfl rfl (by decide +kernel) ⟨Nat.le_of_ble_eq_true rfl, Nat.le_of_ble_eq_true rfl⟩) rfl hl.1 rfl (Nat.le_of_ble_eq_true rfl) dX4_send_46 ⟨Nat.le_of_ble_eq_true rfl, Nat.le_of_ble_eq_true rfl⟩ (fun i_1 w H locs hH h => ?_)
    refine lv_if_ne hx hb dX4_send_49 (tgt := 56) (by decide) (fun c_2 => ?_) (fun c_2 => ?_)
    · have h := h.2 c_2
      refine lv_iload hx hb dX4_send_56 (lv_at hl 0 rfl) ?_
      refine lv_if_ne hx hb dX4_send_58 (tgt := 65) (by decide) (fun c_3 => ?_) (fun c_3 => ?_)
      · have h := h.2 c_3
        refine lv_iconst (v := 0) hx hb dX4_send_65 (by decide) ?_
        refine W.widen (k := 0) (n := 0) (Nat.le_of_ble_eq_true rfl) (Nat.le_of_ble_eq_true rfl) ?_
        exact b66 _ _ _ _ _ _ _ _ h _ _ _ hH (lv_sub hl [1, 2, 3, 4, 5] rfl)
      · have h := h.1 c_3
        refine lv_iconst (v := 2) hx hb dX4_send_61 (by decide) ?_
        refine lv_goto hx hb dX4_send_62 (tgt := 66) (by decide) ?_
        refine W.widen (k := 0) (n := 0) (Nat.le_of_ble_eq_true rfl) (Nat.le_of_ble_eq_true rfl) ?_
        exact b66 _ _ _ _ _ _ _ _ h _ _ _ hH (lv_sub hl [1, 2, 3, 4, 5] rfl)
    · have h := h.1 c_2
      refine lv_iconst (v := 1) hx hb dX4_send_52 (by decide) ?_
      refine lv_goto hx hb dX4_send_53 (tgt := 66) (by decide) ?_
      refine W.widen (k := 0) (n := 0) (Nat.le_of_ble_eq_true rfl) (Nat.le_of_ble_eq_true rfl) ?_
      exact b66 _ _ _ _ _ _ _ _ h _ _ _ hH (lv_sub hl [1, 2, 3, 4, 5] rfl)
  have b41 : ∀ (w : Hp) (a0 : Nat) (x1 : Int32) (x2 : Int32) (x3 : Int32) (x4 : Int32), wp_X4_send_b41 K  w a0 x1 x2 x3 x4 → ∀ (H : Heap) (locs : List Loc) (ls : Array Slot), hx_H G w s H locs → lv_has ls 8 [(0, va_rf (some a0)), (1, .int x1), (2, .int x2), (3, .int x3), (4, .int x4)] → W p l e (headSpec (ws9_X4_send) rm_X4_send).room s m args below meth c H locs (0) (0) (Q9_X4_send below args s G K) (F0 m 41 ls []) := by
    intro w a0 x1 x2 x3 x4 h H locs ls hH hl
    refine lv_iconst (v := 0) hx hb dX4_send_41 (by decide) ?_
    refine W.widen (k := 0) (n := 0) (Nat.le_of_ble_eq_true rfl) (Nat.le_of_ble_eq_true rfl) ?_
    exact b42 _ _ _ _ _ _ _ h _ _ _ hH (lv_sub hl [0, 1, 2, 3, 4] rfl)
  refine lv_iload_n hx hb dX4_send_0 rfl (lv_at hl 2 rfl) ?_
  refine lv_i2l hx hb dX4_send_1 rfl ?_
  refine lv_lconst (v := 0) hx hb dX4_send_2 (by decide) ?_
  refine lv_ldc2 (v := 255) hx hb C0.2.2.2.1 (hts _ q1187) dX4_send_3 ?_
  refine hx_Si C0 hU hH (As := [.long (x2.toInt64), .long (0 : Int64), .long (255 : Int64)]) (wk_X4_isBetween l h) (va_cwS 3 hts (lw_S q1162 q1163 q71 q1164) rfl rfl rfl (by decide +kernel) ⟨Nat.le_of_ble_eq_true rfl, Nat.le_of_ble_eq_true rfl⟩) rfl hl.1 rfl (Nat.le_of_ble_eq_true rfl) dX4_send_6 ⟨Nat.le_of_ble_eq_true rfl, Nat.le_of_ble_eq_true rfl⟩ (fun i_1 w H locs hH h => ?_)
  refine lv_if_eq hx hb dX4_send_9 (tgt := 41) (by decide) (fun c_2 => ?_) (fun c_2 => ?_)
  · have h := h.1 c_2
    refine W.widen (k := 0) (n := 0) (Nat.le_of_ble_eq_true rfl) (Nat.le_of_ble_eq_true rfl) ?_
    exact b41 _ _ _ _ _ _ h _ _ _ hH (lv_sub hl [0, 1, 2, 3, 4] rfl)
  · have h := h.2 c_2
    refine lv_iload_n hx hb dX4_send_12 rfl (lv_at hl 3 rfl) ?_
    refine lv_i2l hx hb dX4_send_13 rfl ?_
    refine lv_lconst (v := 0) hx hb dX4_send_14 (by decide) ?_
    refine lv_ldc2 (v := 255) hx hb C0.2.2.2.1 (hts _ q1187) dX4_send_15 ?_
    refine hx_Si C0 hU hH (As := [.long (x3.toInt64), .long (0 : Int64), .long (255 : Int64)]) (wk_X4_isBetween l h) (va_cwS 3 hts (lw_S q1162 q1163 q71 q1164) rfl rfl rfl (by decide +kernel) ⟨Nat.le_of_ble_eq_true rfl, Nat.le_of_ble_eq_true rfl⟩) rfl hl.1 rfl (Nat.le_of_ble_eq_true rfl) dX4_send_18 ⟨Nat.le_of_ble_eq_true rfl, Nat.le_of_ble_eq_true rfl⟩ (fun i_3 w H locs hH h => ?_)
    refine lv_if_eq hx hb dX4_send_21 (tgt := 41) (by decide) (fun c_4 => ?_) (fun c_4 => ?_)
    · have h := h.1 c_4
      refine W.widen (k := 0) (n := 0) (Nat.le_of_ble_eq_true rfl) (Nat.le_of_ble_eq_true rfl) ?_
      exact b41 _ _ _ _ _ _ h _ _ _ hH (lv_sub hl [0, 1, 2, 3, 4] rfl)
    · have h := h.2 c_4
      refine lv_iload hx hb dX4_send_24 (lv_at hl 4 rfl) ?_
      refine lv_i2l hx hb dX4_send_26 rfl ?_
      refine lv_lconst (v := 0) hx hb dX4_send_27 (by decide) ?_
      refine lv_ldc2 (v := 9999) hx hb C0.2.2.2.1 (hts _ q1207) dX4_send_28 ?_
      refine hx_Si C0 hU hH (As := [.long (x4.toInt64), .long (0 : Int64), .long (9999 : Int64)]) (wk_X4_isBetween l h) (va_cwS 3 hts (lw_S q1162 q1163 q71 q1164) rfl rfl rfl (by decide +kernel) ⟨Nat.le_of_ble_eq_true rfl, Nat.le_of_ble_eq_true rfl⟩) rfl hl.1 rfl (Nat.le_of_ble_eq_true rfl) dX4_send_31 ⟨Nat.le_of_ble_eq_true rfl, Nat.le_of_ble_eq_true rfl⟩ (fun i_5 w H locs hH h => ?_)
      refine lv_if_eq hx hb dX4_send_34 (tgt := 41) (by decide) (fun c_6 => ?_) (fun c_6 => ?_)
      · have h := h.1 c_6
        refine W.widen (k := 0) (n := 0) (Nat.le_of_ble_eq_true rfl) (Nat.le_of_ble_eq_true rfl) ?_
        exact b41 _ _ _ _ _ _ h _ _ _ hH (lv_sub hl [0, 1, 2, 3, 4] rfl)
      · have h := h.2 c_6
        refine lv_iconst (v := 1) hx hb dX4_send_37 (by decide) ?_
        refine lv_goto hx hb dX4_send_38 (tgt := 42) (by decide) ?_
        refine W.widen (k := 0) (n := 0) (Nat.le_of_ble_eq_true rfl) (Nat.le_of_ble_eq_true rfl) ?_
        exact b42 _ _ _ _ _ _ _ h _ _ _ hH (lv_sub hl [0, 1, 2, 3, 4] rfl)
def wp_X4_keep (w : Hp) (a0 : Nat) (x1 : Int32) (x2 : Int32) (K : Hp → Int32 → Prop) : Prop :=
  wp_X4_pair w x1 x2 fun w i_1 => isO w a0 3 <| wp_X4_isWrong w a0 i_1 fun w i_2 => br (i_2 = 0) (isO w a0 3 <| wp_X4_usable w a0 x1 x2 fun w i_4 => br (i_4 = 0) (K w (0 : Int32)) (isO w a0 3 <| wp_X4_data w a0 x1 x2 (-1 : Int32) (-1 : Int32) (-1 : Int32) fun w => K w (1 : Int32))) (K w (0 : Int32))
abbrev rm_X4_keep : Room := { frames := 3, cells := 3, slots := 28, locals := 77 }
abbrev ws9_X4_keep : List Cond := ws_ yX4_keep cX4_keep 3 (Option.some Jvm.ClassFile.FieldType.boolean)
abbrev Q9_X4_keep (below : List Frame) (args : Array Value) (s : State) (G : hG) (K : Hp → Int32 → Prop) : State → Prop := MQ below (hx_Qi G K) args s 3 28 (hx_A G)
set_option maxHeartbeats 4000000 in
set_option maxRecDepth 100000 in
theorem wk_X4_keep (l : Launch) {G : hG} {w : Hp} {a0 : Nat} {x1 : Int32} {x2 : Int32} {K : Hp → Int32 → Prop} (h : wp_X4_keep w a0 x1 x2 K) : hx_Mi l yX4_keep (ws9_X4_keep) rm_X4_keep G w [.ref a0, .int x1, .int x2] K 3 28 := by
  refine Met.ofW (cc := cX4_keep) (maxL := 3) (ret := (Option.some Jvm.ClassFile.FieldType.boolean)) (by decide +kernel) rfl ?_
  intro p e s m args below meth c s₁ B hml hv
  refine hx_in (own := RX4) (av := [.ref a0, .int x1, .int x2]) (vl := [(0, va_rf (some a0)), (1, .int x1), (2, .int x2)]) rfl rfl (Nat.le_of_ble_eq_true rfl) rfl B hml hv ?_
  intro C0 hU hH hr hlocks hin ls hl
  have hx := C0.1
  have hb := C0.2.1
  have hts := C0.2.2.2.2
  refine hx_aload_n C0 dX4_keep_0 rfl (lv_at hl 0 rfl) ?_
  refine lv_iload_n hx hb dX4_keep_1 rfl (lv_at hl 1 rfl) ?_
  refine lv_iload_n hx hb dX4_keep_2 rfl (lv_at hl 2 rfl) ?_
  refine hx_Si C0 hU hH (As := [.int x1, .int x2]) (wk_X4_pair l h) (va_cwS 2 hts (lw_S q1189 q1190 q71 q1191) rfl rfl rfl (by decide +kernel) ⟨Nat.le_of_ble_eq_true rfl, Nat.le_of_ble_eq_true rfl⟩) rfl hl.1 rfl (Nat.le_of_ble_eq_true rfl) dX4_keep_3 ⟨Nat.le_of_ble_eq_true rfl, Nat.le_of_ble_eq_true rfl⟩ (fun i_1 w H locs hH h => ?_)
  obtain ⟨ho, h⟩ := h
  refine hx_Vi C0 hU hH (As := [.int i_1]) (wk_X4_isWrong l h) (cwV 1 hts (lw_V q1166 q1168 qs34 q71 q1169) rfl rfl rfl (by decide +kernel) ⟨Nat.le_of_ble_eq_true rfl, Nat.le_of_ble_eq_true rfl⟩) (hx_recv hU hH (ci := 3) rfl ho) rfl hl.1 rfl (Nat.le_of_ble_eq_true rfl) dX4_keep_6 ⟨Nat.le_of_ble_eq_true rfl, Nat.le_of_ble_eq_true rfl⟩ (fun i_2 w H locs hH h => ?_)
  refine lv_if_eq hx hb dX4_keep_9 (tgt := 14) (by decide) (fun c_3 => ?_) (fun c_3 => ?_)
  · have h := h.1 c_3
    refine hx_aload_n C0 dX4_keep_14 rfl (lv_at hl 0 rfl) ?_
    refine lv_iload_n hx hb dX4_keep_15 rfl (lv_at hl 1 rfl) ?_
    refine lv_iload_n hx hb dX4_keep_16 rfl (lv_at hl 2 rfl) ?_
    obtain ⟨ho, h⟩ := h
    refine hx_Vi C0 hU hH (As := [.int x1, .int x2]) (wk_X4_usable l h) (cwV 2 hts (lw_V q1212 q1214 qs37 q71 q1215) rfl rfl rfl (by decide +kernel) ⟨Nat.le_of_ble_eq_true rfl, Nat.le_of_ble_eq_true rfl⟩) (hx_recv hU hH (ci := 3) rfl ho) rfl hl.1 rfl (Nat.le_of_ble_eq_true rfl) dX4_keep_17 ⟨Nat.le_of_ble_eq_true rfl, Nat.le_of_ble_eq_true rfl⟩ (fun i_4 w H locs hH h => ?_)
    refine lv_if_ne hx hb dX4_keep_20 (tgt := 25) (by decide) (fun c_5 => ?_) (fun c_5 => ?_)
    · have h := h.2 c_5
      refine hx_aload_n C0 dX4_keep_25 rfl (lv_at hl 0 rfl) ?_
      refine lv_iload_n hx hb dX4_keep_26 rfl (lv_at hl 1 rfl) ?_
      refine lv_iload_n hx hb dX4_keep_27 rfl (lv_at hl 2 rfl) ?_
      refine lv_iconst (v := -1) hx hb dX4_keep_28 (by decide) ?_
      refine lv_iconst (v := -1) hx hb dX4_keep_29 (by decide) ?_
      refine lv_iconst (v := -1) hx hb dX4_keep_30 (by decide) ?_
      obtain ⟨ho, h⟩ := h
      refine hx_Vv C0 hU hH (As := [.int x1, .int x2, .int (-1 : Int32), .int (-1 : Int32), .int (-1 : Int32)]) (wk_X4_data l h) (cwV 5 hts (lw_V q1224 q1226 qs40 q71 q1227) rfl rfl rfl (by decide +kernel) ⟨Nat.le_of_ble_eq_true rfl, Nat.le_of_ble_eq_true rfl⟩) (hx_recv hU hH (ci := 3) rfl ho) rfl hl.1 rfl (Nat.le_of_ble_eq_true rfl) dX4_keep_31 ⟨Nat.le_of_ble_eq_true rfl, Nat.le_of_ble_eq_true rfl⟩ (fun w H locs hH h => ?_)
      refine lv_iconst (v := 1) hx hb dX4_keep_34 (by decide) ?_
      exact hx_retz C0 hH hr hlocks (Or.inr rfl) h (Nat.le_of_ble_eq_true rfl) (Nat.le_of_ble_eq_true rfl) dX4_keep_35
    · have h := h.1 c_5
      refine lv_iconst (v := 0) hx hb dX4_keep_23 (by decide) ?_
      exact hx_retz C0 hH hr hlocks (Or.inl rfl) h (Nat.le_of_ble_eq_true rfl) (Nat.le_of_ble_eq_true rfl) dX4_keep_24
  · have h := h.2 c_3
    refine lv_iconst (v := 0) hx hb dX4_keep_12 (by decide) ?_
    exact hx_retz C0 hH hr hlocks (Or.inl rfl) h (Nat.le_of_ble_eq_true rfl) (Nat.le_of_ble_eq_true rfl) dX4_keep_13
def wp_X4_greet_b25 (K : Hp → Int32 → Prop)  (w : Hp) (a0 : Nat) (x1 : Int32) (x2 : Int32) (t0 : Int32) (at1 : Nat) : Prop :=
  isO w at1 3 <| wp_X4_isWrong w at1 t0 fun w i_1 => br (i_1 = 0) (isO w a0 3 <| wp_X4_hello w a0 x1 x2 fun w i_3 => K w i_3) (K w (0 : Int32))
def wp_X4_greet_b24 (K : Hp → Int32 → Prop)  (w : Hp) (a0 : Nat) (x1 : Int32) (x2 : Int32) (x3 : Int32) (at0 : Nat) : Prop :=
  wp_X4_greet_b25 K w a0 x1 x2 x3 at0
def wp_X4_greet (w : Hp) (a0 : Nat) (x1 : Int32) (x2 : Int32) (K : Hp → Int32 → Prop) : Prop :=
  wp_X4_pair w x1 x2 fun w i_1 => br (i_1 = 0) (isO w a0 3 <| wp_X4_isFresh w a0 x1 x2 fun w i_3 => br (i_3 = 0) (wp_X4_greet_b24 K w a0 x1 x2 i_1 a0) (wp_X4_greet_b25 K w a0 x1 x2 (3 : Int32) a0)) (wp_X4_greet_b24 K w a0 x1 x2 i_1 a0)
abbrev rm_X4_greet : Room := { frames := 5, cells := 5, slots := 33, locals := 116 }
abbrev ws9_X4_greet : List Cond := ws_ yX4_greet cX4_greet 4 (Option.some Jvm.ClassFile.FieldType.int)
abbrev Q9_X4_greet (below : List Frame) (args : Array Value) (s : State) (G : hG) (K : Hp → Int32 → Prop) : State → Prop := MQ below (hx_Qi G K) args s 5 33 (hx_A G)
set_option maxHeartbeats 4000000 in
set_option maxRecDepth 100000 in
theorem wk_X4_greet (l : Launch) {G : hG} {w : Hp} {a0 : Nat} {x1 : Int32} {x2 : Int32} {K : Hp → Int32 → Prop} (h : wp_X4_greet w a0 x1 x2 K) : hx_Mi l yX4_greet (ws9_X4_greet) rm_X4_greet G w [.ref a0, .int x1, .int x2] K 5 33 := by
  refine Met.ofW (cc := cX4_greet) (maxL := 4) (ret := (Option.some Jvm.ClassFile.FieldType.int)) (by decide +kernel) rfl ?_
  intro p e s m args below meth c s₁ B hml hv
  refine hx_in (own := RX4) (av := [.ref a0, .int x1, .int x2]) (vl := [(0, va_rf (some a0)), (1, .int x1), (2, .int x2)]) rfl rfl (Nat.le_of_ble_eq_true rfl) rfl B hml hv ?_
  intro C0 hU hH hr hlocks hin ls hl
  have hx := C0.1
  have hb := C0.2.1
  have hts := C0.2.2.2.2
  have b25 : ∀ (w : Hp) (a0 : Nat) (x1 : Int32) (x2 : Int32) (t0 : Int32) (at1 : Nat), wp_X4_greet_b25 K  w a0 x1 x2 t0 at1 → ∀ (H : Heap) (locs : List Loc) (ls : Array Slot), hx_H G w s H locs → lv_has ls 4 [(0, va_rf (some a0)), (1, .int x1), (2, .int x2)] → W p l e (headSpec (ws9_X4_greet) rm_X4_greet).room s m args below meth c H locs (0) (0) (Q9_X4_greet below args s G K) (F0 m 25 ls [.int t0, va_rf (some at1)]) := by
    intro w a0 x1 x2 t0 at1 h H locs ls hH hl
    obtain ⟨ho, h⟩ := h
    refine hx_Vi C0 hU hH (As := [.int t0]) (wk_X4_isWrong l h) (cwV 1 hts (lw_V q1166 q1168 qs34 q71 q1169) rfl rfl rfl (by decide +kernel) ⟨Nat.le_of_ble_eq_true rfl, Nat.le_of_ble_eq_true rfl⟩) (hx_recv hU hH (ci := 3) rfl ho) rfl hl.1 rfl (Nat.le_of_ble_eq_true rfl) dX4_greet_25 ⟨Nat.le_of_ble_eq_true rfl, Nat.le_of_ble_eq_true rfl⟩ (fun i_1 w H locs hH h => ?_)
    refine lv_if_eq hx hb dX4_greet_28 (tgt := 33) (by decide) (fun c_2 => ?_) (fun c_2 => ?_)
    · have h := h.1 c_2
      refine hx_aload_n C0 dX4_greet_33 rfl (lv_at hl 0 rfl) ?_
      refine lv_iload_n hx hb dX4_greet_34 rfl (lv_at hl 1 rfl) ?_
      refine lv_iload_n hx hb dX4_greet_35 rfl (lv_at hl 2 rfl) ?_
      obtain ⟨ho, h⟩ := h
      refine hx_Vi C0 hU hH (As := [.int x1, .int x2]) (wk_X4_hello l h) (cwV 2 hts (lw_V q1243 q1245 qs43 q71 q1246) rfl rfl rfl (by decide +kernel) ⟨Nat.le_of_ble_eq_true rfl, Nat.le_of_ble_eq_true rfl⟩) (hx_recv hU hH (ci := 3) rfl ho) rfl hl.1 rfl (Nat.le_of_ble_eq_true rfl) dX4_greet_36 ⟨Nat.le_of_ble_eq_true rfl, Nat.le_of_ble_eq_true rfl⟩ (fun i_3 w H locs hH h => ?_)
      exact hx_reti C0 hH hr hlocks h (Nat.le_of_ble_eq_true rfl) (Nat.le_of_ble_eq_true rfl) dX4_greet_39
    · have h := h.2 c_2
      refine lv_iconst (v := 0) hx hb dX4_greet_31 (by decide) ?_
      exact hx_reti C0 hH hr hlocks h (Nat.le_of_ble_eq_true rfl) (Nat.le_of_ble_eq_true rfl) dX4_greet_32
  have b24 : ∀ (w : Hp) (a0 : Nat) (x1 : Int32) (x2 : Int32) (x3 : Int32) (at0 : Nat), wp_X4_greet_b24 K  w a0 x1 x2 x3 at0 → ∀ (H : Heap) (locs : List Loc) (ls : Array Slot), hx_H G w s H locs → lv_has ls 4 [(0, va_rf (some a0)), (1, .int x1), (2, .int x2), (3, .int x3)] → W p l e (headSpec (ws9_X4_greet) rm_X4_greet).room s m args below meth c H locs (0) (0) (Q9_X4_greet below args s G K) (F0 m 24 ls [va_rf (some at0)]) := by
    intro w a0 x1 x2 x3 at0 h H locs ls hH hl
    refine lv_iload_n hx hb dX4_greet_24 rfl (lv_at hl 3 rfl) ?_
    refine W.widen (k := 0) (n := 0) (Nat.le_of_ble_eq_true rfl) (Nat.le_of_ble_eq_true rfl) ?_
    exact b25 _ _ _ _ _ _ h _ _ _ hH (lv_sub hl [0, 1, 2] rfl)
  refine lv_iload_n hx hb dX4_greet_0 rfl (lv_at hl 1 rfl) ?_
  refine lv_iload_n hx hb dX4_greet_1 rfl (lv_at hl 2 rfl) ?_
  refine hx_Si C0 hU hH (As := [.int x1, .int x2]) (wk_X4_pair l h) (va_cwS 2 hts (lw_S q1189 q1190 q71 q1191) rfl rfl rfl (by decide +kernel) ⟨Nat.le_of_ble_eq_true rfl, Nat.le_of_ble_eq_true rfl⟩) rfl hl.1 rfl (Nat.le_of_ble_eq_true rfl) dX4_greet_2 ⟨Nat.le_of_ble_eq_true rfl, Nat.le_of_ble_eq_true rfl⟩ (fun i_1 w H locs hH h => ?_)
  refine lv_istore_n hx hb dX4_greet_5 rfl hl (by decide) (lv' := [(3, .int i_1), (0, va_rf (some a0)), (1, .int x1), (2, .int x2)]) rfl (fun ls hl => ?_)
  refine hx_aload_n C0 dX4_greet_6 rfl (lv_at hl 1 rfl) ?_
  refine lv_iload_n hx hb dX4_greet_7 rfl (lv_at hl 0 rfl) ?_
  refine lv_if_ne hx hb dX4_greet_8 (tgt := 24) (by decide) (fun c_2 => ?_) (fun c_2 => ?_)
  · have h := h.2 c_2
    refine W.widen (k := 0) (n := 0) (Nat.le_of_ble_eq_true rfl) (Nat.le_of_ble_eq_true rfl) ?_
    exact b24 _ _ _ _ _ _ h _ _ _ hH (lv_sub hl [1, 2, 3, 0] rfl)
  · have h := h.1 c_2
    refine hx_aload_n C0 dX4_greet_11 rfl (lv_at hl 1 rfl) ?_
    refine lv_iload_n hx hb dX4_greet_12 rfl (lv_at hl 2 rfl) ?_
    refine lv_iload_n hx hb dX4_greet_13 rfl (lv_at hl 3 rfl) ?_
    obtain ⟨ho, h⟩ := h
    refine hx_Vi C0 hU hH (As := [.int x1, .int x2]) (wk_X4_isFresh l h) (cwV 2 hts (lw_V q1239 q1241 qs42 q71 q1242) rfl rfl rfl (by decide +kernel) ⟨Nat.le_of_ble_eq_true rfl, Nat.le_of_ble_eq_true rfl⟩) (hx_recv hU hH (ci := 3) rfl ho) rfl hl.1 rfl (Nat.le_of_ble_eq_true rfl) dX4_greet_14 ⟨Nat.le_of_ble_eq_true rfl, Nat.le_of_ble_eq_true rfl⟩ (fun i_3 w H locs hH h => ?_)
    refine lv_if_eq hx hb dX4_greet_17 (tgt := 24) (by decide) (fun c_4 => ?_) (fun c_4 => ?_)
    · have h := h.1 c_4
      refine W.widen (k := 0) (n := 0) (Nat.le_of_ble_eq_true rfl) (Nat.le_of_ble_eq_true rfl) ?_
      exact b24 _ _ _ _ _ _ h _ _ _ hH (lv_sub hl [1, 2, 3, 0] rfl)
    · have h := h.2 c_4
      refine lv_iconst (v := 3) hx hb dX4_greet_20 (by decide) ?_
      refine lv_goto hx hb dX4_greet_21 (tgt := 25) (by decide) ?_
      refine W.widen (k := 0) (n := 0) (Nat.le_of_ble_eq_true rfl) (Nat.le_of_ble_eq_true rfl) ?_
      exact b25 _ _ _ _ _ _ h _ _ _ hH (lv_sub hl [1, 2, 3] rfl)
def wp_X4_inFlight_b26 (K : Hp → Int32 → Prop) (bk2 : Hp → Nat → Int32 → Int32 → Int32 → Prop) (w : Hp) (a0 : Nat) (x1 : Int32) (x2 : Int32) (x3 : Int32) : Prop :=
  nm (x3 + 1) fun i_1 => bk2 w a0 x1 x2 i_1
def wp_X4_inFlight_s2 (K : Hp → Int32 → Prop)  (bk2 : Hp → Nat → Int32 → Int32 → Int32 → Prop) (w : Hp) (a0 : Nat) (x1 : Int32) (x2 : Int32) (x3 : Int32) : Prop :=
  br ((3 : Int32) ≤ x3) (K w (-1 : Int32)) (br (x3 = x1) (wp_X4_inFlight_b26 K bk2 w a0 x1 x2 x3) (gR w a0 3 13 fun r_3 => dR r_3 fun b_4 => aR w b_4 x1 fun r_5 => dR r_5 fun b_6 => aI w b_6 x3 fun i_7 => br (i_7 = x2) (K w x3) (wp_X4_inFlight_b26 K bk2 w a0 x1 x2 x3)))
def wp_X4_inFlight_l2 (K : Hp → Int32 → Prop)  : ((Hp × Nat × Int32 × Int32 × Int32) → Prop) → (Hp × Nat × Int32 × Int32 × Int32) → Prop := fun bk q => wp_X4_inFlight_s2 K  (fun w a0 x1 x2 x3 => bk (w, a0, x1, x2, x3)) q.1 q.2.1 q.2.2.1 q.2.2.2.1 q.2.2.2.2
def wp_X4_inFlight_b2 (K : Hp → Int32 → Prop)  (w : Hp) (a0 : Nat) (x1 : Int32) (x2 : Int32) (x3 : Int32) : Prop := lp (wp_X4_inFlight_l2 K ) (w, a0, x1, x2, x3)
def wp_X4_inFlight (w : Hp) (a0 : Nat) (x1 : Int32) (x2 : Int32) (K : Hp → Int32 → Prop) : Prop :=
  wp_X4_inFlight_b2 K w a0 x1 x2 (0 : Int32)
abbrev rm_X4_inFlight : Room := { frames := 0, cells := 0, slots := 0, locals := 0 }
abbrev ws9_X4_inFlight : List Cond := ws_ yX4_inFlight cX4_inFlight 4 (Option.some Jvm.ClassFile.FieldType.int)
abbrev Q9_X4_inFlight (below : List Frame) (args : Array Value) (s : State) (G : hG) (K : Hp → Int32 → Prop) : State → Prop := MQ below (hx_Qi G K) args s 0 0 (hx_A G)
set_option maxHeartbeats 4000000 in
set_option maxRecDepth 100000 in
theorem wk_X4_inFlight (l : Launch) {G : hG} {w : Hp} {a0 : Nat} {x1 : Int32} {x2 : Int32} {K : Hp → Int32 → Prop} (h : wp_X4_inFlight w a0 x1 x2 K) : hx_Mi l yX4_inFlight (ws9_X4_inFlight) rm_X4_inFlight G w [.ref a0, .int x1, .int x2] K 0 0 := by
  refine Met.ofW (cc := cX4_inFlight) (maxL := 4) (ret := (Option.some Jvm.ClassFile.FieldType.int)) (by decide +kernel) rfl ?_
  intro p e s m args below meth c s₁ B hml hv
  refine hx_in (own := RX4) (av := [.ref a0, .int x1, .int x2]) (vl := [(0, va_rf (some a0)), (1, .int x1), (2, .int x2)]) rfl rfl (Nat.le_of_ble_eq_true rfl) rfl B hml hv ?_
  intro C0 hU hH hr hlocks hin ls hl
  have hx := C0.1
  have hb := C0.2.1
  have hts := C0.2.2.2.2
  have L2 : ∀ (n2 : Nat) (w : Hp) (a0 : Nat) (x1 : Int32) (x2 : Int32) (x3 : Int32), lpN (wp_X4_inFlight_l2 K ) n2 (w, a0, x1, x2, x3) → ∀ (H : Heap) (locs : List Loc) (ls : Array Slot), hx_H G w s H locs → lv_has ls 4 [(0, va_rf (some a0)), (1, .int x1), (2, .int x2), (3, .int x3)] → W p l e (headSpec (ws9_X4_inFlight) rm_X4_inFlight).room s m args below meth c H locs (0) (0) (Q9_X4_inFlight below args s G K) (F0 m 2 ls []) := by
    intro n2
    induction n2 with
    | zero => intro w a0 x1 x2 x3 h; exact h.elim
    | succ n2 ih2 =>
      intro w a0 x1 x2 x3 h H locs ls hH hl
      have h : wp_X4_inFlight_s2 K  (fun w a0 x1 x2 x3 => lpN (wp_X4_inFlight_l2 K ) n2 (w, a0, x1, x2, x3)) w a0 x1 x2 x3 := h
      have b26 : ∀ (w : Hp) (a0 : Nat) (x1 : Int32) (x2 : Int32) (x3 : Int32), wp_X4_inFlight_b26 K (fun w a0 x1 x2 x3 => lpN (wp_X4_inFlight_l2 K ) n2 (w, a0, x1, x2, x3)) w a0 x1 x2 x3 → ∀ (H : Heap) (locs : List Loc) (ls : Array Slot), hx_H G w s H locs → lv_has ls 4 [(0, va_rf (some a0)), (1, .int x1), (2, .int x2), (3, .int x3)] → W p l e (headSpec (ws9_X4_inFlight) rm_X4_inFlight).room s m args below meth c H locs (0) (0) (Q9_X4_inFlight below args s G K) (F0 m 26 ls []) := by
        intro w a0 x1 x2 x3 h H locs ls hH hl
        obtain ⟨i_1, ei_1⟩ : ∃ z, z = x3 + 1 := ⟨_, rfl⟩
        have h := h i_1 ei_1
        refine lv_iinc (k := 3) hx hb dX4_inFlight_26 hl rfl (v := i_1) (by rw [ei_1]; rfl) (by decide) (lv' := [(3, .int i_1), (0, va_rf (some a0)), (1, .int x1), (2, .int x2)]) rfl (fun ls hl => ?_)
        refine lv_goto hx hb dX4_inFlight_29 (tgt := 2) (by decide) ?_
        refine W.widen (k := 0) (n := 0) (Nat.le_of_ble_eq_true rfl) (Nat.le_of_ble_eq_true rfl) ?_
        exact ih2 _ _ _ _ _ h _ _ _ hH (lv_sub hl [1, 2, 3, 0] rfl)
      refine lv_iload_n hx hb dX4_inFlight_2 rfl (lv_at hl 3 rfl) ?_
      refine lv_iconst (v := 3) hx hb dX4_inFlight_3 (by decide) ?_
      refine lv_icmp_ge hx hb dX4_inFlight_4 (tgt := 32) (by decide) (fun c_1 => ?_) (fun c_1 => ?_)
      · have h := h.1 c_1
        refine lv_iconst (v := -1) hx hb dX4_inFlight_32 (by decide) ?_
        exact hx_reti C0 hH hr hlocks h (Nat.le_of_ble_eq_true rfl) (Nat.le_of_ble_eq_true rfl) dX4_inFlight_33
      · have h := h.2 c_1
        refine lv_iload_n hx hb dX4_inFlight_7 rfl (lv_at hl 3 rfl) ?_
        refine lv_iload_n hx hb dX4_inFlight_8 rfl (lv_at hl 1 rfl) ?_
        refine lv_icmp_eq hx hb dX4_inFlight_9 (tgt := 26) (by decide) (fun c_2 => ?_) (fun c_2 => ?_)
        · have h := h.1 c_2
          refine W.widen (k := 0) (n := 0) (Nat.le_of_ble_eq_true rfl) (Nat.le_of_ble_eq_true rfl) ?_
          exact b26 _ _ _ _ _ h _ _ _ hH (lv_sub hl [0, 1, 2, 3] rfl)
        · have h := h.2 c_2
          refine hx_aload_n C0 dX4_inFlight_12 rfl (lv_at hl 0 rfl) ?_
          refine hx_gR C0 hU hH (ci := 3) rfl in_X4 13 (by decide) q1084 (fun _ h9 => h9) h dX4_inFlight_13 (fun r_3 h => ?_)
          refine lv_iload_n hx hb dX4_inFlight_16 rfl (lv_at hl 1 rfl) ?_
          obtain ⟨b_4, rfl, h9⟩ := h
          have h := h9
          clear h9
          refine hx_aR C0 hU hH h dX4_inFlight_17 (fun r_5 h => ?_)
          refine lv_iload_n hx hb dX4_inFlight_18 rfl (lv_at hl 3 rfl) ?_
          obtain ⟨b_6, rfl, h9⟩ := h
          have h := h9
          clear h9
          refine hx_aI C0 hU hH h dX4_inFlight_19 (fun i_7 h => ?_)
          refine lv_iload_n hx hb dX4_inFlight_20 rfl (lv_at hl 2 rfl) ?_
          refine lv_icmp_ne hx hb dX4_inFlight_21 (tgt := 26) (by decide) (fun c_8 => ?_) (fun c_8 => ?_)
          · have h := h.2 c_8
            refine W.widen (k := 0) (n := 0) (Nat.le_of_ble_eq_true rfl) (Nat.le_of_ble_eq_true rfl) ?_
            exact b26 _ _ _ _ _ h _ _ _ hH (lv_sub hl [0, 1, 2, 3] rfl)
          · have h := h.1 c_8
            refine lv_iload_n hx hb dX4_inFlight_24 rfl (lv_at hl 3 rfl) ?_
            exact hx_reti C0 hH hr hlocks h (Nat.le_of_ble_eq_true rfl) (Nat.le_of_ble_eq_true rfl) dX4_inFlight_25
  refine lv_iconst (v := 0) hx hb dX4_inFlight_0 (by decide) ?_
  refine lv_istore_n hx hb dX4_inFlight_1 rfl hl (by decide) (lv' := [(3, .int (0 : Int32)), (0, va_rf (some a0)), (1, .int x1), (2, .int x2)]) rfl (fun ls hl => ?_)
  obtain ⟨n9, h⟩ := h
  refine W.widen (k := 0) (n := 0) (Nat.le_of_ble_eq_true rfl) (Nat.le_of_ble_eq_true rfl) ?_
  exact L2 n9 _ _ _ _ _ h _ _ _ hH (lv_sub hl [1, 2, 3, 0] rfl)
def wp_X4_gotCookie (w : Hp) (a0 : Nat) (x1 : Int32) (a2 : Nat) (K : Hp → Int32 → Prop) : Prop :=
  aI w a2 (3 : Int32) fun i_1 => aI w a2 (4 : Int32) fun i_2 => isO w a0 3 <| wp_X4_inFlight w a0 x1 i_1 fun w i_3 => br (i_3 = (-1 : Int32)) (K w (-1 : Int32)) (aI w a2 (5 : Int32) fun i_5 => nI_ w (3 : Int32) 3 fun w b_6 => sI w b_6 (0 : Int32) (3 : Int32) fun w => wp_X4_nameOf w i_3 fun w i_7 => sI w b_6 (1 : Int32) i_7 fun w => gR w a0 3 15 fun r_8 => dR r_8 fun b_9 => aR w b_9 x1 fun r_10 => dR r_10 fun b_11 => aI w b_11 i_3 fun i_12 => sI w b_6 (2 : Int32) i_12 fun w => wp_X4_mix w b_6 fun w i_13 => nI_ w (3 : Int32) 3 fun w b_14 => sI w b_14 (0 : Int32) (3 : Int32) fun w => sI w b_14 (1 : Int32) i_1 fun w => sI w b_14 (2 : Int32) i_2 fun w => wp_X4_sealOf w i_13 b_14 fun w i_15 => br (i_5 = i_15) (gR w a0 3 17 fun r_17 => dR r_17 fun b_18 => aR w b_18 x1 fun r_19 => dR r_19 fun b_20 => sI w b_20 i_3 i_2 fun w => gR w a0 3 18 fun r_21 => dR r_21 fun b_22 => aR w b_22 x1 fun r_23 => gI w a0 3 0 fun i_24 => dR r_23 fun b_25 => sI w b_25 i_3 i_24 fun w => K w (3 : Int32)) (K w (-2 : Int32)))
abbrev rm_X4_gotCookie : Room := { frames := 3, cells := 2, slots := 6, locals := 66 }
abbrev ws9_X4_gotCookie : List Cond := ws_ yX4_gotCookie cX4_gotCookie 6 (Option.some Jvm.ClassFile.FieldType.int)
abbrev Q9_X4_gotCookie (below : List Frame) (args : Array Value) (s : State) (G : hG) (K : Hp → Int32 → Prop) : State → Prop := MQ below (hx_Qi G K) args s 2 6 (hx_A G)
set_option maxHeartbeats 4000000 in
set_option maxRecDepth 100000 in
theorem wk_X4_gotCookie (l : Launch) {G : hG} {w : Hp} {a0 : Nat} {x1 : Int32} {a2 : Nat} {K : Hp → Int32 → Prop} (h : wp_X4_gotCookie w a0 x1 a2 K) : hx_Mi l yX4_gotCookie (ws9_X4_gotCookie) rm_X4_gotCookie G w [.ref a0, .int x1, .ref a2] K 2 6 := by
  refine Met.ofW (cc := cX4_gotCookie) (maxL := 6) (ret := (Option.some Jvm.ClassFile.FieldType.int)) (by decide +kernel) rfl ?_
  intro p e s m args below meth c s₁ B hml hv
  refine hx_in (own := RX4) (av := [.ref a0, .int x1, .ref a2]) (vl := [(0, va_rf (some a0)), (1, .int x1), (2, va_rf (some a2))]) rfl rfl (Nat.le_of_ble_eq_true rfl) rfl B hml hv ?_
  intro C0 hU hH hr hlocks hin ls hl
  have hx := C0.1
  have hb := C0.2.1
  have hts := C0.2.2.2.2
  refine hx_aload_n C0 dX4_gotCookie_0 rfl (lv_at hl 2 rfl) ?_
  refine lv_iconst (v := 3) hx hb dX4_gotCookie_1 (by decide) ?_
  refine hx_aI C0 hU hH h dX4_gotCookie_2 (fun i_1 h => ?_)
  refine lv_istore_n hx hb dX4_gotCookie_3 rfl hl (by decide) (lv' := [(3, .int i_1), (0, va_rf (some a0)), (1, .int x1), (2, va_rf (some a2))]) rfl (fun ls hl => ?_)
  refine hx_aload_n C0 dX4_gotCookie_4 rfl (lv_at hl 3 rfl) ?_
  refine lv_iconst (v := 4) hx hb dX4_gotCookie_5 (by decide) ?_
  refine hx_aI C0 hU hH h dX4_gotCookie_6 (fun i_2 h => ?_)
  refine lv_istore hx hb dX4_gotCookie_7 hl (by decide) (lv' := [(4, .int i_2), (3, .int i_1), (0, va_rf (some a0)), (1, .int x1), (2, va_rf (some a2))]) rfl (fun ls hl => ?_)
  refine hx_aload_n C0 dX4_gotCookie_9 rfl (lv_at hl 2 rfl) ?_
  refine lv_iload_n hx hb dX4_gotCookie_10 rfl (lv_at hl 3 rfl) ?_
  refine lv_iload_n hx hb dX4_gotCookie_11 rfl (lv_at hl 1 rfl) ?_
  obtain ⟨ho, h⟩ := h
  refine hx_Vi C0 hU hH (As := [.int x1, .int i_1]) (wk_X4_inFlight l h) (cwV 2 hts (lw_V q1318 q1320 qs52 q71 q1321) rfl rfl rfl (by decide +kernel) ⟨Nat.le_of_ble_eq_true rfl, Nat.le_of_ble_eq_true rfl⟩) (hx_recv hU hH (ci := 3) rfl ho) rfl hl.1 rfl (Nat.le_of_ble_eq_true rfl) dX4_gotCookie_12 ⟨Nat.le_of_ble_eq_true rfl, Nat.le_of_ble_eq_true rfl⟩ (fun i_3 w H locs hH h => ?_)
  refine lv_istore hx hb dX4_gotCookie_15 hl (by decide) (lv' := [(5, .int i_3), (4, .int i_2), (3, .int i_1), (0, va_rf (some a0)), (1, .int x1), (2, va_rf (some a2))]) rfl (fun ls hl => ?_)
  refine lv_iload hx hb dX4_gotCookie_17 (lv_at hl 0 rfl) ?_
  refine lv_iconst (v := -1) hx hb dX4_gotCookie_19 (by decide) ?_
  refine lv_icmp_ne hx hb dX4_gotCookie_20 (tgt := 25) (by decide) (fun c_4 => ?_) (fun c_4 => ?_)
  · have h := h.2 c_4
    refine hx_aload_n C0 dX4_gotCookie_25 rfl (lv_at hl 5 rfl) ?_
    refine lv_iconst (v := 5) hx hb dX4_gotCookie_26 (by decide) ?_
    refine hx_aI C0 hU hH h dX4_gotCookie_27 (fun i_5 h => ?_)
    refine lv_iconst (v := 3) hx hb dX4_gotCookie_28 (by decide) ?_
    refine hx_nI C0 hU hH (Nat.le_of_ble_eq_true rfl) (Nat.le_of_ble_eq_true rfl) (Nat.le_of_ble_eq_true rfl) h dX4_gotCookie_29 (fun b_6 w H locs hH h => ?_)
    refine lv_dup hx hb dX4_gotCookie_31 rfl ?_
    refine lv_iconst (v := 0) hx hb dX4_gotCookie_32 (by decide) ?_
    refine lv_iconst (v := 3) hx hb dX4_gotCookie_33 (by decide) ?_
    refine hx_sI C0 hU hH h dX4_gotCookie_34 (fun w H locs hH h => ?_)
    refine lv_dup hx hb dX4_gotCookie_35 rfl ?_
    refine lv_iconst (v := 1) hx hb dX4_gotCookie_36 (by decide) ?_
    refine lv_iload hx hb dX4_gotCookie_37 (lv_at hl 0 rfl) ?_
    refine hx_Si C0 hU hH (As := [.int i_3]) (wk_X4_nameOf l h) (va_cwS 1 hts (lw_S q1257 q1258 q71 q1259) rfl rfl rfl (by decide +kernel) ⟨Nat.le_of_ble_eq_true rfl, Nat.le_of_ble_eq_true rfl⟩) rfl hl.1 rfl (Nat.le_of_ble_eq_true rfl) dX4_gotCookie_39 ⟨Nat.le_of_ble_eq_true rfl, Nat.le_of_ble_eq_true rfl⟩ (fun i_7 w H locs hH h => ?_)
    refine hx_sI C0 hU hH h dX4_gotCookie_42 (fun w H locs hH h => ?_)
    refine lv_dup hx hb dX4_gotCookie_43 rfl ?_
    refine lv_iconst (v := 2) hx hb dX4_gotCookie_44 (by decide) ?_
    refine hx_aload_n C0 dX4_gotCookie_45 rfl (lv_at hl 3 rfl) ?_
    refine hx_gR C0 hU hH (ci := 3) rfl in_X4 15 (by decide) q1086 (fun _ h9 => h9) h dX4_gotCookie_46 (fun r_8 h => ?_)
    refine lv_iload_n hx hb dX4_gotCookie_49 rfl (lv_at hl 4 rfl) ?_
    obtain ⟨b_9, rfl, h9⟩ := h
    have h := h9
    clear h9
    refine hx_aR C0 hU hH h dX4_gotCookie_50 (fun r_10 h => ?_)
    refine lv_iload hx hb dX4_gotCookie_51 (lv_at hl 0 rfl) ?_
    obtain ⟨b_11, rfl, h9⟩ := h
    have h := h9
    clear h9
    refine hx_aI C0 hU hH h dX4_gotCookie_53 (fun i_12 h => ?_)
    refine hx_sI C0 hU hH h dX4_gotCookie_54 (fun w H locs hH h => ?_)
    refine hx_Si C0 hU hH (As := [va_rf (some b_6)]) (wk_X4_mix l h) (va_cwS 1 hts (lw_S q1273 q1274 q71 q1275) rfl rfl rfl (by decide +kernel) ⟨Nat.le_of_ble_eq_true rfl, Nat.le_of_ble_eq_true rfl⟩) rfl hl.1 rfl (Nat.le_of_ble_eq_true rfl) dX4_gotCookie_55 ⟨Nat.le_of_ble_eq_true rfl, Nat.le_of_ble_eq_true rfl⟩ (fun i_13 w H locs hH h => ?_)
    refine lv_iconst (v := 3) hx hb dX4_gotCookie_58 (by decide) ?_
    refine hx_nI C0 hU hH (Nat.le_of_ble_eq_true rfl) (Nat.le_of_ble_eq_true rfl) (Nat.le_of_ble_eq_true rfl) h dX4_gotCookie_59 (fun b_14 w H locs hH h => ?_)
    refine lv_dup hx hb dX4_gotCookie_61 rfl ?_
    refine lv_iconst (v := 0) hx hb dX4_gotCookie_62 (by decide) ?_
    refine lv_iconst (v := 3) hx hb dX4_gotCookie_63 (by decide) ?_
    refine hx_sI C0 hU hH h dX4_gotCookie_64 (fun w H locs hH h => ?_)
    refine lv_dup hx hb dX4_gotCookie_65 rfl ?_
    refine lv_iconst (v := 1) hx hb dX4_gotCookie_66 (by decide) ?_
    refine lv_iload_n hx hb dX4_gotCookie_67 rfl (lv_at hl 2 rfl) ?_
    refine hx_sI C0 hU hH h dX4_gotCookie_68 (fun w H locs hH h => ?_)
    refine lv_dup hx hb dX4_gotCookie_69 rfl ?_
    refine lv_iconst (v := 2) hx hb dX4_gotCookie_70 (by decide) ?_
    refine lv_iload hx hb dX4_gotCookie_71 (lv_at hl 1 rfl) ?_
    refine hx_sI C0 hU hH h dX4_gotCookie_73 (fun w H locs hH h => ?_)
    refine hx_Si C0 hU hH (As := [.int i_13, va_rf (some b_14)]) (wk_X4_sealOf l h) (va_cwS 2 hts (lw_S q1228 q1229 q71 q1230) rfl rfl rfl (by decide +kernel) ⟨Nat.le_of_ble_eq_true rfl, Nat.le_of_ble_eq_true rfl⟩) rfl hl.1 rfl (Nat.le_of_ble_eq_true rfl) dX4_gotCookie_74 ⟨Nat.le_of_ble_eq_true rfl, Nat.le_of_ble_eq_true rfl⟩ (fun i_15 w H locs hH h => ?_)
    refine lv_icmp_eq hx hb dX4_gotCookie_77 (tgt := 83) (by decide) (fun c_16 => ?_) (fun c_16 => ?_)
    · have h := h.1 c_16
      refine hx_aload_n C0 dX4_gotCookie_83 rfl (lv_at hl 3 rfl) ?_
      refine hx_gR C0 hU hH (ci := 3) rfl in_X4 17 (by decide) q1088 (fun _ h9 => h9) h dX4_gotCookie_84 (fun r_17 h => ?_)
      refine lv_iload_n hx hb dX4_gotCookie_87 rfl (lv_at hl 4 rfl) ?_
      obtain ⟨b_18, rfl, h9⟩ := h
      have h := h9
      clear h9
      refine hx_aR C0 hU hH h dX4_gotCookie_88 (fun r_19 h => ?_)
      refine lv_iload hx hb dX4_gotCookie_89 (lv_at hl 0 rfl) ?_
      refine lv_iload hx hb dX4_gotCookie_91 (lv_at hl 1 rfl) ?_
      obtain ⟨b_20, rfl, h9⟩ := h
      have h := h9
      clear h9
      refine hx_sI C0 hU hH h dX4_gotCookie_93 (fun w H locs hH h => ?_)
      refine hx_aload_n C0 dX4_gotCookie_94 rfl (lv_at hl 3 rfl) ?_
      refine hx_gR C0 hU hH (ci := 3) rfl in_X4 18 (by decide) q1089 (fun _ h9 => h9) h dX4_gotCookie_95 (fun r_21 h => ?_)
      refine lv_iload_n hx hb dX4_gotCookie_98 rfl (lv_at hl 4 rfl) ?_
      obtain ⟨b_22, rfl, h9⟩ := h
      have h := h9
      clear h9
      refine hx_aR C0 hU hH h dX4_gotCookie_99 (fun r_23 h => ?_)
      refine lv_iload hx hb dX4_gotCookie_100 (lv_at hl 0 rfl) ?_
      refine hx_aload_n C0 dX4_gotCookie_102 rfl (lv_at hl 3 rfl) ?_
      refine hx_gI C0 hU hH (ci := 3) rfl in_X4 0 (by decide) q1071 (fun _ h9 => h9) h dX4_gotCookie_103 (fun i_24 h => ?_)
      obtain ⟨b_25, rfl, h9⟩ := h
      have h := h9
      clear h9
      refine hx_sI C0 hU hH h dX4_gotCookie_106 (fun w H locs hH h => ?_)
      refine lv_iconst (v := 3) hx hb dX4_gotCookie_107 (by decide) ?_
      exact hx_reti C0 hH hr hlocks h (Nat.le_of_ble_eq_true rfl) (Nat.le_of_ble_eq_true rfl) dX4_gotCookie_108
    · have h := h.2 c_16
      refine lv_bipush (v := -2) hx hb dX4_gotCookie_80 (by decide) ?_
      exact hx_reti C0 hH hr hlocks h (Nat.le_of_ble_eq_true rfl) (Nat.le_of_ble_eq_true rfl) dX4_gotCookie_82
  · have h := h.1 c_4
    refine lv_iconst (v := -1) hx hb dX4_gotCookie_23 (by decide) ?_
    exact hx_reti C0 hH hr hlocks h (Nat.le_of_ble_eq_true rfl) (Nat.le_of_ble_eq_true rfl) dX4_gotCookie_24
def wp_X4_sendWaiting_s49 (K : Hp → Prop) (bk0 : Hp → Nat → Int32 → Int32 → Prop) (bk49 : Hp → Nat → Int32 → Int32 → Int32 → Prop) (w : Hp) (a0 : Nat) (x1 : Int32) (x2 : Int32) (x4 : Int32) : Prop :=
  gR w a0 3 19 fun r_1 => dR r_1 fun b_2 => aR w b_2 x1 fun r_3 => dR r_3 fun b_4 => aI w b_4 x2 fun i_5 => br ((i_5 - (1 : Int32)) ≤ x4) (gR w a0 3 19 fun r_7 => dR r_7 fun b_8 => aR w b_8 x1 fun r_9 => dR r_9 fun b_10 => aI w b_10 x2 fun i_11 => sI w b_10 x2 (i_11 - (1 : Int32)) fun w => bk0 w a0 x1 x2) (gR w a0 3 20 fun r_12 => dR r_12 fun b_13 => aR w b_13 x1 fun r_14 => dR r_14 fun b_15 => aR w b_15 x2 fun r_16 => gR w a0 3 20 fun r_17 => dR r_17 fun b_18 => aR w b_18 x1 fun r_19 => dR r_19 fun b_20 => aR w b_20 x2 fun r_21 => dR r_21 fun b_22 => aR w b_22 (x4 + (1 : Int32)) fun r_23 => dR r_16 fun b_24 => sR w b_24 x4 r_23 fun w => nm (x4 + 1) fun i_25 => bk49 w a0 x1 x2 i_25)
def wp_X4_sendWaiting_l49 (K : Hp → Prop) (bk0 : Hp → Nat → Int32 → Int32 → Prop) : ((Hp × Nat × Int32 × Int32 × Int32) → Prop) → (Hp × Nat × Int32 × Int32 × Int32) → Prop := fun bk q => wp_X4_sendWaiting_s49 K bk0 (fun w a0 x1 x2 x4 => bk (w, a0, x1, x2, x4)) q.1 q.2.1 q.2.2.1 q.2.2.2.1 q.2.2.2.2
def wp_X4_sendWaiting_b49 (K : Hp → Prop) (bk0 : Hp → Nat → Int32 → Int32 → Prop) (w : Hp) (a0 : Nat) (x1 : Int32) (x2 : Int32) (x4 : Int32) : Prop := lp (wp_X4_sendWaiting_l49 K bk0) (w, a0, x1, x2, x4)
def wp_X4_sendWaiting_s0 (K : Hp → Prop)  (bk0 : Hp → Nat → Int32 → Int32 → Prop) (w : Hp) (a0 : Nat) (x1 : Int32) (x2 : Int32) : Prop :=
  gR w a0 3 19 fun r_1 => dR r_1 fun b_2 => aR w b_2 x1 fun r_3 => dR r_3 fun b_4 => aI w b_4 x2 fun i_5 => br (i_5 ≤ 0) (K w) (isO w a0 3 <| wp_X4_usable w a0 x1 x2 fun w i_7 => br (i_7 = 0) (K w) (gR w a0 3 20 fun r_9 => dR r_9 fun b_10 => aR w b_10 x1 fun r_11 => dR r_11 fun b_12 => aR w b_12 x2 fun r_13 => dR r_13 fun b_14 => aR w b_14 (0 : Int32) fun r_15 => dR r_15 fun b_16 => aI w b_16 (0 : Int32) fun i_17 => aI w b_16 (1 : Int32) fun i_18 => aI w b_16 (2 : Int32) fun i_19 => isO w a0 3 <| wp_X4_data w a0 x1 x2 i_17 i_18 i_19 fun w => wp_X4_sendWaiting_b49 K bk0 w a0 x1 x2 (0 : Int32)))
def wp_X4_sendWaiting_l0 (K : Hp → Prop)  : ((Hp × Nat × Int32 × Int32) → Prop) → (Hp × Nat × Int32 × Int32) → Prop := fun bk q => wp_X4_sendWaiting_s0 K  (fun w a0 x1 x2 => bk (w, a0, x1, x2)) q.1 q.2.1 q.2.2.1 q.2.2.2
def wp_X4_sendWaiting_b0 (K : Hp → Prop)  (w : Hp) (a0 : Nat) (x1 : Int32) (x2 : Int32) : Prop := lpN (wp_X4_sendWaiting_l0 K ) 5 (w, a0, x1, x2)
def wp_X4_sendWaiting (w : Hp) (a0 : Nat) (x1 : Int32) (x2 : Int32) (K : Hp → Prop) : Prop :=
  wp_X4_sendWaiting_b0 K w a0 x1 x2
abbrev rm_X4_sendWaiting : Room := { frames := 3, cells := 15, slots := 140, locals := 77 }
abbrev ws9_X4_sendWaiting : List Cond := ws_ yX4_sendWaiting cX4_sendWaiting 5 none
abbrev Q9_X4_sendWaiting (below : List Frame) (args : Array Value) (s : State) (G : hG) (K : Hp → Prop) : State → Prop := MQ below (hx_Qv G K) args s 15 140 (hx_A G)
set_option maxHeartbeats 4000000 in
set_option maxRecDepth 100000 in
theorem wk_X4_sendWaiting (l : Launch) {G : hG} {w : Hp} {a0 : Nat} {x1 : Int32} {x2 : Int32} {K : Hp → Prop} (h : wp_X4_sendWaiting w a0 x1 x2 K) : hx_Mv l yX4_sendWaiting (ws9_X4_sendWaiting) rm_X4_sendWaiting G w [.ref a0, .int x1, .int x2] K 15 140 := by
  refine Met.ofW (cc := cX4_sendWaiting) (maxL := 5) (ret := none) (by decide +kernel) rfl ?_
  intro p e s m args below meth c s₁ B hml hv
  refine hx_in (own := RX4) (av := [.ref a0, .int x1, .int x2]) (vl := [(0, va_rf (some a0)), (1, .int x1), (2, .int x2)]) rfl rfl (Nat.le_of_ble_eq_true rfl) rfl B hml hv ?_
  intro C0 hU hH hr hlocks hin ls hl
  have hx := C0.1
  have hb := C0.2.1
  have hts := C0.2.2.2.2
  have L0 : ∀ (n0 cl0 sl0 : Nat), cl0 + n0 * 3 ≤ 15 → sl0 + n0 * 28 ≤ 140 → ∀ (w : Hp) (a0 : Nat) (x1 : Int32) (x2 : Int32), lpN (wp_X4_sendWaiting_l0 K ) n0 (w, a0, x1, x2) → ∀ (H : Heap) (locs : List Loc) (ls : Array Slot), hx_H G w s H locs → lv_has ls 5 [(0, va_rf (some a0)), (1, .int x1), (2, .int x2)] → W p l e (headSpec (ws9_X4_sendWaiting) rm_X4_sendWaiting).room s m args below meth c H locs (cl0 + 0) (sl0 + 0) (Q9_X4_sendWaiting below args s G K) (F0 m 0 ls []) := by
    intro n0
    induction n0 with
    | zero => intro cl0 sl0 _ _ w a0 x1 x2 h; exact h.elim
    | succ n0 ih0 =>
      intro cl0 sl0 hcl0 hsl0 w a0 x1 x2 h H locs ls hH hl
      have h : wp_X4_sendWaiting_s0 K  (fun w a0 x1 x2 => lpN (wp_X4_sendWaiting_l0 K ) n0 (w, a0, x1, x2)) w a0 x1 x2 := h
      have L49 : ∀ (n49 : Nat) (w : Hp) (a0 : Nat) (x1 : Int32) (x2 : Int32) (x4 : Int32), lpN (wp_X4_sendWaiting_l49 K (fun w a0 x1 x2 => lpN (wp_X4_sendWaiting_l0 K ) n0 (w, a0, x1, x2))) n49 (w, a0, x1, x2, x4) → ∀ (H : Heap) (locs : List Loc) (ls : Array Slot), hx_H G w s H locs → lv_has ls 5 [(0, va_rf (some a0)), (1, .int x1), (2, .int x2), (4, .int x4)] → W p l e (headSpec (ws9_X4_sendWaiting) rm_X4_sendWaiting).room s m args below meth c H locs (cl0 + 3) (sl0 + 28) (Q9_X4_sendWaiting below args s G K) (F0 m 49 ls []) := by
        intro n49
        induction n49 with
        | zero => intro w a0 x1 x2 x4 h; exact h.elim
        | succ n49 ih49 =>
          intro w a0 x1 x2 x4 h H locs ls hH hl
          have h : wp_X4_sendWaiting_s49 K (fun w a0 x1 x2 => lpN (wp_X4_sendWaiting_l0 K ) n0 (w, a0, x1, x2)) (fun w a0 x1 x2 x4 => lpN (wp_X4_sendWaiting_l49 K (fun w a0 x1 x2 => lpN (wp_X4_sendWaiting_l0 K ) n0 (w, a0, x1, x2))) n49 (w, a0, x1, x2, x4)) w a0 x1 x2 x4 := h
          refine lv_iload hx hb dX4_sendWaiting_49 (lv_at hl 3 rfl) ?_
          refine hx_aload_n C0 dX4_sendWaiting_51 rfl (lv_at hl 0 rfl) ?_
          refine hx_gR C0 hU hH (ci := 3) rfl in_X4 19 (by decide) q1090 (fun _ h9 => h9) h dX4_sendWaiting_52 (fun r_1 h => ?_)
          refine lv_iload_n hx hb dX4_sendWaiting_55 rfl (lv_at hl 1 rfl) ?_
          obtain ⟨b_2, rfl, h9⟩ := h
          have h := h9
          clear h9
          refine hx_aR C0 hU hH h dX4_sendWaiting_56 (fun r_3 h => ?_)
          refine lv_iload_n hx hb dX4_sendWaiting_57 rfl (lv_at hl 2 rfl) ?_
          obtain ⟨b_4, rfl, h9⟩ := h
          have h := h9
          clear h9
          refine hx_aI C0 hU hH h dX4_sendWaiting_58 (fun i_5 h => ?_)
          refine lv_iconst (v := 1) hx hb dX4_sendWaiting_59 (by decide) ?_
          refine lv_isub hx hb dX4_sendWaiting_60 ?_
          refine lv_icmp_ge hx hb dX4_sendWaiting_61 (tgt := 94) (by decide) (fun c_6 => ?_) (fun c_6 => ?_)
          · have h := h.1 c_6
            refine hx_aload_n C0 dX4_sendWaiting_94 rfl (lv_at hl 0 rfl) ?_
            refine hx_gR C0 hU hH (ci := 3) rfl in_X4 19 (by decide) q1090 (fun _ h9 => h9) h dX4_sendWaiting_95 (fun r_7 h => ?_)
            refine lv_iload_n hx hb dX4_sendWaiting_98 rfl (lv_at hl 1 rfl) ?_
            obtain ⟨b_8, rfl, h9⟩ := h
            have h := h9
            clear h9
            refine hx_aR C0 hU hH h dX4_sendWaiting_99 (fun r_9 h => ?_)
            refine lv_iload_n hx hb dX4_sendWaiting_100 rfl (lv_at hl 2 rfl) ?_
            refine lv_dup2_11 hx hb dX4_sendWaiting_101 rfl (hx_rfc _) ?_
            obtain ⟨b_10, rfl, h9⟩ := h
            have h := h9
            clear h9
            refine hx_aI C0 hU hH h dX4_sendWaiting_102 (fun i_11 h => ?_)
            refine lv_iconst (v := 1) hx hb dX4_sendWaiting_103 (by decide) ?_
            refine lv_isub hx hb dX4_sendWaiting_104 ?_
            refine hx_sI C0 hU hH h dX4_sendWaiting_105 (fun w H locs hH h => ?_)
            refine lv_goto hx hb dX4_sendWaiting_106 (tgt := 0) (by decide) ?_
            refine W.widen (k := cl0 + 3) (n := sl0 + 28) (by omega) (by omega) ?_
            exact ih0 _ _ (by omega) (by omega) _ _ _ _ h _ _ _ hH (lv_sub hl [0, 1, 2] rfl)
          · have h := h.2 c_6
            refine hx_aload_n C0 dX4_sendWaiting_64 rfl (lv_at hl 0 rfl) ?_
            refine hx_gR C0 hU hH (ci := 3) rfl in_X4 20 (by decide) q1091 (fun _ h9 => h9) h dX4_sendWaiting_65 (fun r_12 h => ?_)
            refine lv_iload_n hx hb dX4_sendWaiting_68 rfl (lv_at hl 1 rfl) ?_
            obtain ⟨b_13, rfl, h9⟩ := h
            have h := h9
            clear h9
            refine hx_aR C0 hU hH h dX4_sendWaiting_69 (fun r_14 h => ?_)
            refine lv_iload_n hx hb dX4_sendWaiting_70 rfl (lv_at hl 2 rfl) ?_
            obtain ⟨b_15, rfl, h9⟩ := h
            have h := h9
            clear h9
            refine hx_aR C0 hU hH h dX4_sendWaiting_71 (fun r_16 h => ?_)
            refine lv_iload hx hb dX4_sendWaiting_72 (lv_at hl 3 rfl) ?_
            refine hx_aload_n C0 dX4_sendWaiting_74 rfl (lv_at hl 0 rfl) ?_
            refine hx_gR C0 hU hH (ci := 3) rfl in_X4 20 (by decide) q1091 (fun _ h9 => h9) h dX4_sendWaiting_75 (fun r_17 h => ?_)
            refine lv_iload_n hx hb dX4_sendWaiting_78 rfl (lv_at hl 1 rfl) ?_
            obtain ⟨b_18, rfl, h9⟩ := h
            have h := h9
            clear h9
            refine hx_aR C0 hU hH h dX4_sendWaiting_79 (fun r_19 h => ?_)
            refine lv_iload_n hx hb dX4_sendWaiting_80 rfl (lv_at hl 2 rfl) ?_
            obtain ⟨b_20, rfl, h9⟩ := h
            have h := h9
            clear h9
            refine hx_aR C0 hU hH h dX4_sendWaiting_81 (fun r_21 h => ?_)
            refine lv_iload hx hb dX4_sendWaiting_82 (lv_at hl 3 rfl) ?_
            refine lv_iconst (v := 1) hx hb dX4_sendWaiting_84 (by decide) ?_
            refine lv_iadd hx hb dX4_sendWaiting_85 ?_
            obtain ⟨b_22, rfl, h9⟩ := h
            have h := h9
            clear h9
            refine hx_aR C0 hU hH h dX4_sendWaiting_86 (fun r_23 h => ?_)
            obtain ⟨b_24, rfl, h9⟩ := h
            have h := h9
            clear h9
            refine hx_sR C0 hU hH h dX4_sendWaiting_87 (fun w H locs hH h => ?_)
            obtain ⟨i_25, ei_25⟩ : ∃ z, z = x4 + 1 := ⟨_, rfl⟩
            have h := h i_25 ei_25
            refine lv_iinc (k := 3) hx hb dX4_sendWaiting_88 hl rfl (v := i_25) (by rw [ei_25]; rfl) (by decide) (lv' := [(4, .int i_25), (0, va_rf (some a0)), (1, .int x1), (2, .int x2)]) rfl (fun ls hl => ?_)
            refine lv_goto hx hb dX4_sendWaiting_91 (tgt := 49) (by decide) ?_
            refine W.widen (k := cl0 + 3) (n := sl0 + 28) (by omega) (by omega) ?_
            exact ih49 _ _ _ _ _ h _ _ _ hH (lv_sub hl [1, 2, 3, 0] rfl)
      refine hx_aload_n C0 dX4_sendWaiting_0 rfl (lv_at hl 0 rfl) ?_
      refine hx_gR C0 hU hH (ci := 3) rfl in_X4 19 (by decide) q1090 (fun _ h9 => h9) h dX4_sendWaiting_1 (fun r_1 h => ?_)
      refine lv_iload_n hx hb dX4_sendWaiting_4 rfl (lv_at hl 1 rfl) ?_
      obtain ⟨b_2, rfl, h9⟩ := h
      have h := h9
      clear h9
      refine hx_aR C0 hU hH h dX4_sendWaiting_5 (fun r_3 h => ?_)
      refine lv_iload_n hx hb dX4_sendWaiting_6 rfl (lv_at hl 2 rfl) ?_
      obtain ⟨b_4, rfl, h9⟩ := h
      have h := h9
      clear h9
      refine hx_aI C0 hU hH h dX4_sendWaiting_7 (fun i_5 h => ?_)
      refine lv_if_le hx hb dX4_sendWaiting_8 (tgt := 109) (by decide) (fun c_6 => ?_) (fun c_6 => ?_)
      · have h := h.1 c_6
        exact hx_retv C0 hH hr hlocks h (by omega) (by omega) dX4_sendWaiting_109
      · have h := h.2 c_6
        refine hx_aload_n C0 dX4_sendWaiting_11 rfl (lv_at hl 0 rfl) ?_
        refine lv_iload_n hx hb dX4_sendWaiting_12 rfl (lv_at hl 1 rfl) ?_
        refine lv_iload_n hx hb dX4_sendWaiting_13 rfl (lv_at hl 2 rfl) ?_
        obtain ⟨ho, h⟩ := h
        refine hx_Vi C0 hU hH (As := [.int x1, .int x2]) (wk_X4_usable l h) (cwV 2 hts (lw_V q1212 q1214 qs37 q71 q1215) rfl rfl rfl (by decide +kernel) ⟨Nat.le_of_ble_eq_true rfl, Nat.le_of_ble_eq_true rfl⟩) (hx_recv hU hH (ci := 3) rfl ho) rfl hl.1 rfl (Nat.le_of_ble_eq_true rfl) dX4_sendWaiting_14 ⟨(show _ ≤ 15 by omega), (show _ ≤ 140 by omega)⟩ (fun i_7 w H locs hH h => ?_)
        refine lv_if_eq hx hb dX4_sendWaiting_17 (tgt := 109) (by decide) (fun c_8 => ?_) (fun c_8 => ?_)
        · have h := h.1 c_8
          exact hx_retv C0 hH hr hlocks h (by omega) (by omega) dX4_sendWaiting_109
        · have h := h.2 c_8
          refine hx_aload_n C0 dX4_sendWaiting_20 rfl (lv_at hl 0 rfl) ?_
          refine hx_gR C0 hU hH (ci := 3) rfl in_X4 20 (by decide) q1091 (fun _ h9 => h9) h dX4_sendWaiting_21 (fun r_9 h => ?_)
          refine lv_iload_n hx hb dX4_sendWaiting_24 rfl (lv_at hl 1 rfl) ?_
          obtain ⟨b_10, rfl, h9⟩ := h
          have h := h9
          clear h9
          refine hx_aR C0 hU hH h dX4_sendWaiting_25 (fun r_11 h => ?_)
          refine lv_iload_n hx hb dX4_sendWaiting_26 rfl (lv_at hl 2 rfl) ?_
          obtain ⟨b_12, rfl, h9⟩ := h
          have h := h9
          clear h9
          refine hx_aR C0 hU hH h dX4_sendWaiting_27 (fun r_13 h => ?_)
          refine lv_iconst (v := 0) hx hb dX4_sendWaiting_28 (by decide) ?_
          obtain ⟨b_14, rfl, h9⟩ := h
          have h := h9
          clear h9
          refine hx_aR C0 hU hH h dX4_sendWaiting_29 (fun r_15 h => ?_)
          refine hx_astore_n C0 dX4_sendWaiting_30 rfl hl (by decide) (lv' := [(3, va_rf r_15), (0, va_rf (some a0)), (1, .int x1), (2, .int x2)]) rfl (fun ls hl => ?_)
          refine hx_aload_n C0 dX4_sendWaiting_31 rfl (lv_at hl 1 rfl) ?_
          refine lv_iload_n hx hb dX4_sendWaiting_32 rfl (lv_at hl 2 rfl) ?_
          refine lv_iload_n hx hb dX4_sendWaiting_33 rfl (lv_at hl 3 rfl) ?_
          refine hx_aload_n C0 dX4_sendWaiting_34 rfl (lv_at hl 0 rfl) ?_
          refine lv_iconst (v := 0) hx hb dX4_sendWaiting_35 (by decide) ?_
          obtain ⟨b_16, rfl, h9⟩ := h
          have h := h9
          clear h9
          refine hx_aI C0 hU hH h dX4_sendWaiting_36 (fun i_17 h => ?_)
          refine hx_aload_n C0 dX4_sendWaiting_37 rfl (lv_at hl 0 rfl) ?_
          refine lv_iconst (v := 1) hx hb dX4_sendWaiting_38 (by decide) ?_
          refine hx_aI C0 hU hH h dX4_sendWaiting_39 (fun i_18 h => ?_)
          refine hx_aload_n C0 dX4_sendWaiting_40 rfl (lv_at hl 0 rfl) ?_
          refine lv_iconst (v := 2) hx hb dX4_sendWaiting_41 (by decide) ?_
          refine hx_aI C0 hU hH h dX4_sendWaiting_42 (fun i_19 h => ?_)
          obtain ⟨ho, h⟩ := h
          refine hx_Vv C0 hU hH (As := [.int x1, .int x2, .int i_17, .int i_18, .int i_19]) (wk_X4_data l h) (cwV 5 hts (lw_V q1224 q1226 qs40 q71 q1227) rfl rfl rfl (by decide +kernel) ⟨Nat.le_of_ble_eq_true rfl, Nat.le_of_ble_eq_true rfl⟩) (hx_recv hU hH (ci := 3) rfl ho) rfl hl.1 rfl (Nat.le_of_ble_eq_true rfl) dX4_sendWaiting_43 ⟨(show _ ≤ 15 by omega), (show _ ≤ 140 by omega)⟩ (fun w H locs hH h => ?_)
          refine lv_iconst (v := 0) hx hb dX4_sendWaiting_46 (by decide) ?_
          refine lv_istore hx hb dX4_sendWaiting_47 hl (by decide) (lv' := [(4, .int (0 : Int32)), (3, va_rf (some b_16)), (0, va_rf (some a0)), (1, .int x1), (2, .int x2)]) rfl (fun ls hl => ?_)
          obtain ⟨n9, h⟩ := h
          refine W.widen (k := cl0 + 3) (n := sl0 + 28) (by omega) (by omega) ?_
          exact L49 n9 _ _ _ _ _ h _ _ _ hH (lv_sub hl [2, 3, 4, 0] rfl)
  refine W.widen (k := 0) (n := 0) (Nat.le_of_ble_eq_true rfl) (Nat.le_of_ble_eq_true rfl) ?_
  exact L0 5 (0) (0) (Nat.le_of_ble_eq_true rfl) (Nat.le_of_ble_eq_true rfl) _ _ _ _ h _ _ _ hH (lv_sub hl [0, 1, 2] rfl)
def wp_X4_turnOver (w : Hp) (a0 : Nat) (x1 : Int32) (x2 : Int32) (K : Hp → Prop) : Prop :=
  gR w a0 3 21 fun r_1 => dR r_1 fun b_2 => aR w b_2 x1 fun r_3 => dR r_3 fun b_4 => aR w b_4 x2 fun r_5 => gR w a0 3 21 fun r_6 => dR r_6 fun b_7 => aR w b_7 x1 fun r_8 => dR r_8 fun b_9 => aR w b_9 x2 fun r_10 => dR r_10 fun b_11 => aR w b_11 (1 : Int32) fun r_12 => dR r_5 fun b_13 => sR w b_13 (0 : Int32) r_12 fun w => gR w a0 3 22 fun r_14 => dR r_14 fun b_15 => aR w b_15 x1 fun r_16 => dR r_16 fun b_17 => aR w b_17 x2 fun r_18 => gR w a0 3 22 fun r_19 => dR r_19 fun b_20 => aR w b_20 x1 fun r_21 => dR r_21 fun b_22 => aR w b_22 x2 fun r_23 => dR r_23 fun b_24 => aR w b_24 (1 : Int32) fun r_25 => dR r_18 fun b_26 => sR w b_26 (0 : Int32) r_25 fun w => K w
abbrev rm_X4_turnOver : Room := { frames := 0, cells := 0, slots := 0, locals := 0 }
abbrev ws9_X4_turnOver : List Cond := ws_ yX4_turnOver cX4_turnOver 3 none
abbrev Q9_X4_turnOver (below : List Frame) (args : Array Value) (s : State) (G : hG) (K : Hp → Prop) : State → Prop := MQ below (hx_Qv G K) args s 0 0 (hx_A G)
set_option maxHeartbeats 4000000 in
set_option maxRecDepth 100000 in
theorem wk_X4_turnOver (l : Launch) {G : hG} {w : Hp} {a0 : Nat} {x1 : Int32} {x2 : Int32} {K : Hp → Prop} (h : wp_X4_turnOver w a0 x1 x2 K) : hx_Mv l yX4_turnOver (ws9_X4_turnOver) rm_X4_turnOver G w [.ref a0, .int x1, .int x2] K 0 0 := by
  refine Met.ofW (cc := cX4_turnOver) (maxL := 3) (ret := none) (by decide +kernel) rfl ?_
  intro p e s m args below meth c s₁ B hml hv
  refine hx_in (own := RX4) (av := [.ref a0, .int x1, .int x2]) (vl := [(0, va_rf (some a0)), (1, .int x1), (2, .int x2)]) rfl rfl (Nat.le_of_ble_eq_true rfl) rfl B hml hv ?_
  intro C0 hU hH hr hlocks hin ls hl
  have hx := C0.1
  have hb := C0.2.1
  have hts := C0.2.2.2.2
  refine hx_aload_n C0 dX4_turnOver_0 rfl (lv_at hl 0 rfl) ?_
  refine hx_gR C0 hU hH (ci := 3) rfl in_X4 21 (by decide) q1092 (fun _ h9 => h9) h dX4_turnOver_1 (fun r_1 h => ?_)
  refine lv_iload_n hx hb dX4_turnOver_4 rfl (lv_at hl 1 rfl) ?_
  obtain ⟨b_2, rfl, h9⟩ := h
  have h := h9
  clear h9
  refine hx_aR C0 hU hH h dX4_turnOver_5 (fun r_3 h => ?_)
  refine lv_iload_n hx hb dX4_turnOver_6 rfl (lv_at hl 2 rfl) ?_
  obtain ⟨b_4, rfl, h9⟩ := h
  have h := h9
  clear h9
  refine hx_aR C0 hU hH h dX4_turnOver_7 (fun r_5 h => ?_)
  refine lv_iconst (v := 0) hx hb dX4_turnOver_8 (by decide) ?_
  refine hx_aload_n C0 dX4_turnOver_9 rfl (lv_at hl 0 rfl) ?_
  refine hx_gR C0 hU hH (ci := 3) rfl in_X4 21 (by decide) q1092 (fun _ h9 => h9) h dX4_turnOver_10 (fun r_6 h => ?_)
  refine lv_iload_n hx hb dX4_turnOver_13 rfl (lv_at hl 1 rfl) ?_
  obtain ⟨b_7, rfl, h9⟩ := h
  have h := h9
  clear h9
  refine hx_aR C0 hU hH h dX4_turnOver_14 (fun r_8 h => ?_)
  refine lv_iload_n hx hb dX4_turnOver_15 rfl (lv_at hl 2 rfl) ?_
  obtain ⟨b_9, rfl, h9⟩ := h
  have h := h9
  clear h9
  refine hx_aR C0 hU hH h dX4_turnOver_16 (fun r_10 h => ?_)
  refine lv_iconst (v := 1) hx hb dX4_turnOver_17 (by decide) ?_
  obtain ⟨b_11, rfl, h9⟩ := h
  have h := h9
  clear h9
  refine hx_aR C0 hU hH h dX4_turnOver_18 (fun r_12 h => ?_)
  obtain ⟨b_13, rfl, h9⟩ := h
  have h := h9
  clear h9
  refine hx_sR C0 hU hH h dX4_turnOver_19 (fun w H locs hH h => ?_)
  refine hx_aload_n C0 dX4_turnOver_20 rfl (lv_at hl 0 rfl) ?_
  refine hx_gR C0 hU hH (ci := 3) rfl in_X4 22 (by decide) q1093 (fun _ h9 => h9) h dX4_turnOver_21 (fun r_14 h => ?_)
  refine lv_iload_n hx hb dX4_turnOver_24 rfl (lv_at hl 1 rfl) ?_
  obtain ⟨b_15, rfl, h9⟩ := h
  have h := h9
  clear h9
  refine hx_aR C0 hU hH h dX4_turnOver_25 (fun r_16 h => ?_)
  refine lv_iload_n hx hb dX4_turnOver_26 rfl (lv_at hl 2 rfl) ?_
  obtain ⟨b_17, rfl, h9⟩ := h
  have h := h9
  clear h9
  refine hx_aR C0 hU hH h dX4_turnOver_27 (fun r_18 h => ?_)
  refine lv_iconst (v := 0) hx hb dX4_turnOver_28 (by decide) ?_
  refine hx_aload_n C0 dX4_turnOver_29 rfl (lv_at hl 0 rfl) ?_
  refine hx_gR C0 hU hH (ci := 3) rfl in_X4 22 (by decide) q1093 (fun _ h9 => h9) h dX4_turnOver_30 (fun r_19 h => ?_)
  refine lv_iload_n hx hb dX4_turnOver_33 rfl (lv_at hl 1 rfl) ?_
  obtain ⟨b_20, rfl, h9⟩ := h
  have h := h9
  clear h9
  refine hx_aR C0 hU hH h dX4_turnOver_34 (fun r_21 h => ?_)
  refine lv_iload_n hx hb dX4_turnOver_35 rfl (lv_at hl 2 rfl) ?_
  obtain ⟨b_22, rfl, h9⟩ := h
  have h := h9
  clear h9
  refine hx_aR C0 hU hH h dX4_turnOver_36 (fun r_23 h => ?_)
  refine lv_iconst (v := 1) hx hb dX4_turnOver_37 (by decide) ?_
  obtain ⟨b_24, rfl, h9⟩ := h
  have h := h9
  clear h9
  refine hx_aR C0 hU hH h dX4_turnOver_38 (fun r_25 h => ?_)
  obtain ⟨b_26, rfl, h9⟩ := h
  have h := h9
  clear h9
  refine hx_sR C0 hU hH h dX4_turnOver_39 (fun w H locs hH h => ?_)
  exact hx_retv C0 hH hr hlocks h (Nat.le_of_ble_eq_true rfl) (Nat.le_of_ble_eq_true rfl) dX4_turnOver_40
def wp_X4_gotData_s449 (K : Hp → Int32 → Prop)  (bk449 : Hp → Nat → Int32 → Int32 → Int32 → Int32 → Int32 → Nat → Int32 → Prop) (w : Hp) (a0 : Nat) (x1 : Int32) (x5 : Int32) (x6 : Int32) (x7 : Int32) (x8 : Int32) (a11 : Nat) (x12 : Int32) : Prop :=
  gR w a0 3 25 fun r_1 => dR r_1 fun b_2 => aN w b_2 fun i_3 => br (i_3 ≤ x12) (gR w a0 3 25 fun r_5 => dR r_5 fun b_6 => aN w b_6 fun i_7 => nI_ w (5 : Int32) 5 fun w b_8 => sI w b_8 (0 : Int32) x1 fun w => sI w b_8 (1 : Int32) x8 fun w => sI w b_8 (2 : Int32) x5 fun w => sI w b_8 (3 : Int32) x6 fun w => sI w b_8 (4 : Int32) x7 fun w => sR w a11 i_7 (some b_8) fun w => pV w a0 3 25 (va_rf (some a11)) fun w => gR w a0 3 6 fun r_9 => dR r_9 fun b_10 => aI w b_10 x1 fun i_11 => sI w b_10 x1 (i_11 + (1 : Int32)) fun w => K w (1 : Int32)) (gR w a0 3 25 fun r_12 => dR r_12 fun b_13 => aR w b_13 x12 fun r_14 => sR w a11 x12 r_14 fun w => nm (x12 + 1) fun i_15 => bk449 w a0 x1 x5 x6 x7 x8 a11 i_15)
def wp_X4_gotData_l449 (K : Hp → Int32 → Prop)  : ((Hp × Nat × Int32 × Int32 × Int32 × Int32 × Int32 × Nat × Int32) → Prop) → (Hp × Nat × Int32 × Int32 × Int32 × Int32 × Int32 × Nat × Int32) → Prop := fun bk q => wp_X4_gotData_s449 K  (fun w a0 x1 x5 x6 x7 x8 a11 x12 => bk (w, a0, x1, x5, x6, x7, x8, a11, x12)) q.1 q.2.1 q.2.2.1 q.2.2.2.1 q.2.2.2.2.1 q.2.2.2.2.2.1 q.2.2.2.2.2.2.1 q.2.2.2.2.2.2.2.1 q.2.2.2.2.2.2.2.2
def wp_X4_gotData_b449 (K : Hp → Int32 → Prop)  (w : Hp) (a0 : Nat) (x1 : Int32) (x5 : Int32) (x6 : Int32) (x7 : Int32) (x8 : Int32) (a11 : Nat) (x12 : Int32) : Prop := lp (wp_X4_gotData_l449 K ) (w, a0, x1, x5, x6, x7, x8, a11, x12)
def wp_X4_gotData_b419 (K : Hp → Int32 → Prop)  (w : Hp) (a0 : Nat) (x1 : Int32) (x5 : Int32) (x6 : Int32) (x7 : Int32) (x8 : Int32) : Prop :=
  isO w a0 3 <| wp_X4_given w a0 x1 x5 fun w i_1 => br (i_1 = x8) (gR w a0 3 25 fun r_3 => dR r_3 fun b_4 => aN w b_4 fun i_5 => nR_ 7 w (i_5 + (1 : Int32)) 64 fun w b_6 => wp_X4_gotData_b449 K w a0 x1 x5 x6 x7 x8 b_6 (0 : Int32)) (K w (-5 : Int32))
def wp_X4_gotData_b399 (K : Hp → Int32 → Prop)  (w : Hp) (a0 : Nat) (x1 : Int32) (x5 : Int32) (x6 : Int32) (x7 : Int32) (x8 : Int32) : Prop :=
  br (x5 = (-1 : Int32)) (br (x6 = (-1 : Int32)) (br (x7 = (-1 : Int32)) (K w (2 : Int32)) (wp_X4_gotData_b419 K w a0 x1 x5 x6 x7 x8)) (wp_X4_gotData_b419 K w a0 x1 x5 x6 x7 x8)) (wp_X4_gotData_b419 K w a0 x1 x5 x6 x7 x8)
def wp_X4_gotData_b278 (K : Hp → Int32 → Prop)  (w : Hp) (a0 : Nat) (x1 : Int32) (a2 : Nat) (x4 : Int32) (x5 : Int32) (x6 : Int32) (x7 : Int32) (x8 : Int32) (x9 : Int32) (a10 : Nat) : Prop :=
  aI w a10 (7 : Int32) fun i_1 => wp_J4_max w i_1 x4 fun w i_2 => sI w a10 (7 : Int32) i_2 fun w => aI w a10 (8 : Int32) fun i_3 => sI w a10 (8 : Int32) (i_3 + (1 : Int32)) fun w => gR w a0 3 10 fun r_4 => dR r_4 fun b_5 => aR w b_5 x1 fun r_6 => aI w a2 (0 : Int32) fun i_7 => dR r_6 fun b_8 => sI w b_8 x8 i_7 fun w => br (x9 = (2 : Int32)) (isO w a0 3 <| wp_X4_turnOver w a0 x1 x8 fun w => gR w a0 3 21 fun r_10 => dR r_10 fun b_11 => aR w b_11 x1 fun r_12 => dR r_12 fun b_13 => aR w b_13 x8 fun r_14 => dR r_14 fun b_15 => sR w b_15 (1 : Int32) (some a10) fun w => gR w a0 3 22 fun r_16 => dR r_16 fun b_17 => aR w b_17 x1 fun r_18 => dR r_18 fun b_19 => aR w b_19 x8 fun r_20 => gR w a0 3 22 fun r_21 => dR r_21 fun b_22 => aR w b_22 x1 fun r_23 => dR r_23 fun b_24 => aR w b_24 x8 fun r_25 => dR r_25 fun b_26 => aR w b_26 (2 : Int32) fun r_27 => dR r_20 fun b_28 => sR w b_28 (1 : Int32) r_27 fun w => gR w a0 3 21 fun r_29 => dR r_29 fun b_30 => aR w b_30 x1 fun r_31 => dR r_31 fun b_32 => aR w b_32 x8 fun r_33 => nI_ w (9 : Int32) 9 fun w b_34 => dR r_33 fun b_35 => sR w b_35 (2 : Int32) (some b_34) fun w => gR w a0 3 22 fun r_36 => dR r_36 fun b_37 => aR w b_37 x1 fun r_38 => dR r_38 fun b_39 => aR w b_39 x8 fun r_40 => nZ_ w (40 : Int32) 40 fun w b_41 => dR r_40 fun b_42 => sR w b_42 (2 : Int32) (some b_41) fun w => isO w a0 3 <| wp_X4_sendWaiting w a0 x1 x8 fun w => wp_X4_gotData_b399 K w a0 x1 x5 x6 x7 x8) (wp_X4_gotData_b399 K w a0 x1 x5 x6 x7 x8)
def wp_X4_gotData_b249 (K : Hp → Int32 → Prop)  (w : Hp) (a0 : Nat) (x1 : Int32) (a2 : Nat) (x4 : Int32) (x5 : Int32) (x6 : Int32) (x7 : Int32) (x8 : Int32) (x9 : Int32) (a10 : Nat) : Prop :=
  wp_X4_isBetween w (x4.toInt64) (0 : Int64) (39 : Int64) fun w i_1 => br (i_1 = 0) (wp_X4_gotData_b278 K w a0 x1 a2 x4 x5 x6 x7 x8 x9 a10) (gR w a0 3 22 fun r_3 => dR r_3 fun b_4 => aR w b_4 x1 fun r_5 => dR r_5 fun b_6 => aR w b_6 x8 fun r_7 => dR r_7 fun b_8 => aR w b_8 x9 fun r_9 => dR r_9 fun b_10 => sZ w b_10 x4 (1 : Int32) fun w => wp_X4_gotData_b278 K w a0 x1 a2 x4 x5 x6 x7 x8 x9 a10)
def wp_X4_gotData_b246 (K : Hp → Int32 → Prop)  (w : Hp)  : Prop :=
  K w (-3 : Int32)
def wp_X4_gotData_b225 (K : Hp → Int32 → Prop)  (w : Hp) (a0 : Nat) (x1 : Int32) (a2 : Nat) (x4 : Int32) (x5 : Int32) (x6 : Int32) (x7 : Int32) (x8 : Int32) (x9 : Int32) (a10 : Nat) : Prop :=
  aI w a10 (8 : Int32) fun i_1 => br (i_1 ≤ 0) (wp_X4_gotData_b249 K w a0 x1 a2 x4 x5 x6 x7 x8 x9 a10) (aI w a10 (7 : Int32) fun i_3 => br ((i_3 - (16 : Int32)) < x4) (wp_X4_gotData_b249 K w a0 x1 a2 x4 x5 x6 x7 x8 x9 a10) (wp_X4_gotData_b246 K w))
def wp_X4_gotData_b94 (K : Hp → Int32 → Prop) (bk35 : Hp → Nat → Int32 → Nat → Int32 → Int32 → Int32 → Int32 → Int32 → Int32 → Int32 → Int32 → Prop) (bk44 : Hp → Nat → Int32 → Nat → Int32 → Int32 → Int32 → Int32 → Int32 → Int32 → Int32 → Int32 → Int32 → Prop) (w : Hp) (a0 : Nat) (x1 : Int32) (a2 : Nat) (x3 : Int32) (x4 : Int32) (x5 : Int32) (x6 : Int32) (x7 : Int32) (x8 : Int32) (x9 : Int32) (x10 : Int32) (x11 : Int32) : Prop :=
  nm (x11 + 1) fun i_1 => bk44 w a0 x1 a2 x3 x4 x5 x6 x7 x8 x9 x10 i_1
def wp_X4_gotData_s44 (K : Hp → Int32 → Prop) (bk35 : Hp → Nat → Int32 → Nat → Int32 → Int32 → Int32 → Int32 → Int32 → Int32 → Int32 → Int32 → Prop) (bk44 : Hp → Nat → Int32 → Nat → Int32 → Int32 → Int32 → Int32 → Int32 → Int32 → Int32 → Int32 → Int32 → Prop) (w : Hp) (a0 : Nat) (x1 : Int32) (a2 : Nat) (x3 : Int32) (x4 : Int32) (x5 : Int32) (x6 : Int32) (x7 : Int32) (x8 : Int32) (x9 : Int32) (x10 : Int32) (x11 : Int32) : Prop :=
  br ((3 : Int32) ≤ x11) (nm (x10 + 1) fun i_2 => bk35 w a0 x1 a2 x3 x4 x5 x6 x7 x8 x9 i_2) (br (x10 = x1) (wp_X4_gotData_b94 K bk35 bk44 w a0 x1 a2 x3 x4 x5 x6 x7 x8 x9 x10 x11) (isO w a0 3 <| wp_X4_isThere w a0 x1 x10 x11 fun w i_4 => br (i_4 = 0) (wp_X4_gotData_b94 K bk35 bk44 w a0 x1 a2 x3 x4 x5 x6 x7 x8 x9 x10 x11) (gR w a0 3 21 fun r_6 => dR r_6 fun b_7 => aR w b_7 x1 fun r_8 => dR r_8 fun b_9 => aR w b_9 x10 fun r_10 => dR r_10 fun b_11 => aR w b_11 x11 fun r_12 => dR r_12 fun b_13 => aI w b_13 (0 : Int32) fun i_14 => br (i_14 = x3) (wp_X4_gotData_b94 K bk35 bk44 w a0 x1 a2 x3 x4 x5 x6 x7 x10 x11 x10 x11) (wp_X4_gotData_b94 K bk35 bk44 w a0 x1 a2 x3 x4 x5 x6 x7 x8 x9 x10 x11))))
def wp_X4_gotData_l44 (K : Hp → Int32 → Prop) (bk35 : Hp → Nat → Int32 → Nat → Int32 → Int32 → Int32 → Int32 → Int32 → Int32 → Int32 → Int32 → Prop) : ((Hp × Nat × Int32 × Nat × Int32 × Int32 × Int32 × Int32 × Int32 × Int32 × Int32 × Int32 × Int32) → Prop) → (Hp × Nat × Int32 × Nat × Int32 × Int32 × Int32 × Int32 × Int32 × Int32 × Int32 × Int32 × Int32) → Prop := fun bk q => wp_X4_gotData_s44 K bk35 (fun w a0 x1 a2 x3 x4 x5 x6 x7 x8 x9 x10 x11 => bk (w, a0, x1, a2, x3, x4, x5, x6, x7, x8, x9, x10, x11)) q.1 q.2.1 q.2.2.1 q.2.2.2.1 q.2.2.2.2.1 q.2.2.2.2.2.1 q.2.2.2.2.2.2.1 q.2.2.2.2.2.2.2.1 q.2.2.2.2.2.2.2.2.1 q.2.2.2.2.2.2.2.2.2.1 q.2.2.2.2.2.2.2.2.2.2.1 q.2.2.2.2.2.2.2.2.2.2.2.1 q.2.2.2.2.2.2.2.2.2.2.2.2
def wp_X4_gotData_b44 (K : Hp → Int32 → Prop) (bk35 : Hp → Nat → Int32 → Nat → Int32 → Int32 → Int32 → Int32 → Int32 → Int32 → Int32 → Int32 → Prop) (w : Hp) (a0 : Nat) (x1 : Int32) (a2 : Nat) (x3 : Int32) (x4 : Int32) (x5 : Int32) (x6 : Int32) (x7 : Int32) (x8 : Int32) (x9 : Int32) (x10 : Int32) (x11 : Int32) : Prop := lp (wp_X4_gotData_l44 K bk35) (w, a0, x1, a2, x3, x4, x5, x6, x7, x8, x9, x10, x11)
def wp_X4_gotData_s35 (K : Hp → Int32 → Prop)  (bk35 : Hp → Nat → Int32 → Nat → Int32 → Int32 → Int32 → Int32 → Int32 → Int32 → Int32 → Int32 → Prop) (w : Hp) (a0 : Nat) (x1 : Int32) (a2 : Nat) (x3 : Int32) (x4 : Int32) (x5 : Int32) (x6 : Int32) (x7 : Int32) (x8 : Int32) (x9 : Int32) (x10 : Int32) : Prop :=
  br ((3 : Int32) ≤ x10) (br (x8 = (-1 : Int32)) (K w (-1 : Int32)) (gR w a0 3 21 fun r_3 => dR r_3 fun b_4 => aR w b_4 x1 fun r_5 => dR r_5 fun b_6 => aR w b_6 x8 fun r_7 => dR r_7 fun b_8 => aR w b_8 x9 fun r_9 => isO w a0 3 <| wp_X4_age w a0 x1 x8 x9 fun w i_10 => br (i_10 < (30 : Int32)) (aI w a2 (8 : Int32) fun i_12 => dR r_9 fun b_13 => aI w b_13 (4 : Int32) fun i_14 => nI_ w (6 : Int32) 6 fun w b_15 => sI w b_15 (0 : Int32) (4 : Int32) fun w => sI w b_15 (1 : Int32) x3 fun w => sI w b_15 (2 : Int32) x4 fun w => sI w b_15 (3 : Int32) x5 fun w => sI w b_15 (4 : Int32) x6 fun w => sI w b_15 (5 : Int32) x7 fun w => wp_X4_sealOf w i_14 b_15 fun w i_16 => br (i_12 = i_16) (wp_X4_isBetween w (x4.toInt64) (0 : Int64) (39 : Int64) fun w i_18 => br (i_18 = 0) (wp_X4_gotData_b225 K w a0 x1 a2 x4 x5 x6 x7 x8 x9 b_13) (gR w a0 3 22 fun r_20 => dR r_20 fun b_21 => aR w b_21 x1 fun r_22 => dR r_22 fun b_23 => aR w b_23 x8 fun r_24 => dR r_24 fun b_25 => aR w b_25 x9 fun r_26 => dR r_26 fun b_27 => aZ w b_27 x4 fun i_28 => br (i_28 = 0) (wp_X4_gotData_b225 K w a0 x1 a2 x4 x5 x6 x7 x8 x9 b_13) (wp_X4_gotData_b246 K w))) (K w (-2 : Int32))) (K w (-4 : Int32)))) (wp_X4_gotData_b44 K bk35 w a0 x1 a2 x3 x4 x5 x6 x7 x8 x9 x10 (0 : Int32))
def wp_X4_gotData_l35 (K : Hp → Int32 → Prop)  : ((Hp × Nat × Int32 × Nat × Int32 × Int32 × Int32 × Int32 × Int32 × Int32 × Int32 × Int32) → Prop) → (Hp × Nat × Int32 × Nat × Int32 × Int32 × Int32 × Int32 × Int32 × Int32 × Int32 × Int32) → Prop := fun bk q => wp_X4_gotData_s35 K  (fun w a0 x1 a2 x3 x4 x5 x6 x7 x8 x9 x10 => bk (w, a0, x1, a2, x3, x4, x5, x6, x7, x8, x9, x10)) q.1 q.2.1 q.2.2.1 q.2.2.2.1 q.2.2.2.2.1 q.2.2.2.2.2.1 q.2.2.2.2.2.2.1 q.2.2.2.2.2.2.2.1 q.2.2.2.2.2.2.2.2.1 q.2.2.2.2.2.2.2.2.2.1 q.2.2.2.2.2.2.2.2.2.2.1 q.2.2.2.2.2.2.2.2.2.2.2
def wp_X4_gotData_b35 (K : Hp → Int32 → Prop)  (w : Hp) (a0 : Nat) (x1 : Int32) (a2 : Nat) (x3 : Int32) (x4 : Int32) (x5 : Int32) (x6 : Int32) (x7 : Int32) (x8 : Int32) (x9 : Int32) (x10 : Int32) : Prop := lp (wp_X4_gotData_l35 K ) (w, a0, x1, a2, x3, x4, x5, x6, x7, x8, x9, x10)
def wp_X4_gotData (w : Hp) (a0 : Nat) (x1 : Int32) (a2 : Nat) (K : Hp → Int32 → Prop) : Prop :=
  aI w a2 (3 : Int32) fun i_1 => aI w a2 (4 : Int32) fun i_2 => aI w a2 (5 : Int32) fun i_3 => aI w a2 (6 : Int32) fun i_4 => aI w a2 (7 : Int32) fun i_5 => wp_X4_gotData_b35 K w a0 x1 a2 i_1 i_2 i_3 i_4 i_5 (-1 : Int32) (-1 : Int32) (0 : Int32)
abbrev rm_X4_gotData : Room := { frames := 4, cells := 20, slots := 264, locals := 101 }
abbrev ws9_X4_gotData : List Cond := ws_ yX4_gotData cX4_gotData 13 (Option.some Jvm.ClassFile.FieldType.int)
abbrev Q9_X4_gotData (below : List Frame) (args : Array Value) (s : State) (G : hG) (K : Hp → Int32 → Prop) : State → Prop := MQ below (hx_Qi G K) args s 20 264 (hx_A G)
set_option maxHeartbeats 4000000 in
set_option maxRecDepth 100000 in
theorem wk_X4_gotData (l : Launch) {G : hG} {w : Hp} {a0 : Nat} {x1 : Int32} {a2 : Nat} {K : Hp → Int32 → Prop} (h : wp_X4_gotData w a0 x1 a2 K) : hx_Mi l yX4_gotData (ws9_X4_gotData) rm_X4_gotData G w [.ref a0, .int x1, .ref a2] K 20 264 := by
  refine Met.ofW (cc := cX4_gotData) (maxL := 13) (ret := (Option.some Jvm.ClassFile.FieldType.int)) (by decide +kernel) rfl ?_
  intro p e s m args below meth c s₁ B hml hv
  refine hx_in (own := RX4) (av := [.ref a0, .int x1, .ref a2]) (vl := [(0, va_rf (some a0)), (1, .int x1), (2, va_rf (some a2))]) rfl rfl (Nat.le_of_ble_eq_true rfl) rfl B hml hv ?_
  intro C0 hU hH hr hlocks hin ls hl
  have hx := C0.1
  have hb := C0.2.1
  have hts := C0.2.2.2.2
  have L449 : ∀ (n449 : Nat) (w : Hp) (a0 : Nat) (x1 : Int32) (x5 : Int32) (x6 : Int32) (x7 : Int32) (x8 : Int32) (a11 : Nat) (x12 : Int32), lpN (wp_X4_gotData_l449 K ) n449 (w, a0, x1, x5, x6, x7, x8, a11, x12) → ∀ (H : Heap) (locs : List Loc) (ls : Array Slot), hx_H G w s H locs → lv_has ls 13 [(0, va_rf (some a0)), (1, .int x1), (5, .int x5), (6, .int x6), (7, .int x7), (8, .int x8), (11, va_rf (some a11)), (12, .int x12)] → W p l e (headSpec (ws9_X4_gotData) rm_X4_gotData).room s m args below meth c H locs (19) (259) (Q9_X4_gotData below args s G K) (F0 m 449 ls []) := by
    intro n449
    induction n449 with
    | zero => intro w a0 x1 x5 x6 x7 x8 a11 x12 h; exact h.elim
    | succ n449 ih449 =>
      intro w a0 x1 x5 x6 x7 x8 a11 x12 h H locs ls hH hl
      have h : wp_X4_gotData_s449 K  (fun w a0 x1 x5 x6 x7 x8 a11 x12 => lpN (wp_X4_gotData_l449 K ) n449 (w, a0, x1, x5, x6, x7, x8, a11, x12)) w a0 x1 x5 x6 x7 x8 a11 x12 := h
      refine lv_iload hx hb dX4_gotData_449 (lv_at hl 7 rfl) ?_
      refine hx_aload_n C0 dX4_gotData_451 rfl (lv_at hl 0 rfl) ?_
      refine hx_gR C0 hU hH (ci := 3) rfl in_X4 25 (by decide) q1096 (fun _ h9 => h9) h dX4_gotData_452 (fun r_1 h => ?_)
      obtain ⟨b_2, rfl, h9⟩ := h
      have h := h9
      clear h9
      refine hx_aN C0 hU hH h dX4_gotData_455 (fun i_3 h => ?_)
      refine lv_icmp_ge hx hb dX4_gotData_456 (tgt := 477) (by decide) (fun c_4 => ?_) (fun c_4 => ?_)
      · have h := h.1 c_4
        refine hx_aload C0 dX4_gotData_477 (lv_at hl 6 rfl) ?_
        refine hx_aload_n C0 dX4_gotData_479 rfl (lv_at hl 0 rfl) ?_
        refine hx_gR C0 hU hH (ci := 3) rfl in_X4 25 (by decide) q1096 (fun _ h9 => h9) h dX4_gotData_480 (fun r_5 h => ?_)
        obtain ⟨b_6, rfl, h9⟩ := h
        have h := h9
        clear h9
        refine hx_aN C0 hU hH h dX4_gotData_483 (fun i_7 h => ?_)
        refine lv_iconst (v := 5) hx hb dX4_gotData_484 (by decide) ?_
        refine hx_nI C0 hU hH (Nat.le_of_ble_eq_true rfl) (Nat.le_of_ble_eq_true rfl) (Nat.le_of_ble_eq_true rfl) h dX4_gotData_485 (fun b_8 w H locs hH h => ?_)
        refine lv_dup hx hb dX4_gotData_487 rfl ?_
        refine lv_iconst (v := 0) hx hb dX4_gotData_488 (by decide) ?_
        refine lv_iload_n hx hb dX4_gotData_489 rfl (lv_at hl 1 rfl) ?_
        refine hx_sI C0 hU hH h dX4_gotData_490 (fun w H locs hH h => ?_)
        refine lv_dup hx hb dX4_gotData_491 rfl ?_
        refine lv_iconst (v := 1) hx hb dX4_gotData_492 (by decide) ?_
        refine lv_iload hx hb dX4_gotData_493 (lv_at hl 5 rfl) ?_
        refine hx_sI C0 hU hH h dX4_gotData_495 (fun w H locs hH h => ?_)
        refine lv_dup hx hb dX4_gotData_496 rfl ?_
        refine lv_iconst (v := 2) hx hb dX4_gotData_497 (by decide) ?_
        refine lv_iload hx hb dX4_gotData_498 (lv_at hl 2 rfl) ?_
        refine hx_sI C0 hU hH h dX4_gotData_500 (fun w H locs hH h => ?_)
        refine lv_dup hx hb dX4_gotData_501 rfl ?_
        refine lv_iconst (v := 3) hx hb dX4_gotData_502 (by decide) ?_
        refine lv_iload hx hb dX4_gotData_503 (lv_at hl 3 rfl) ?_
        refine hx_sI C0 hU hH h dX4_gotData_505 (fun w H locs hH h => ?_)
        refine lv_dup hx hb dX4_gotData_506 rfl ?_
        refine lv_iconst (v := 4) hx hb dX4_gotData_507 (by decide) ?_
        refine lv_iload hx hb dX4_gotData_508 (lv_at hl 4 rfl) ?_
        refine hx_sI C0 hU hH h dX4_gotData_510 (fun w H locs hH h => ?_)
        refine hx_sR C0 hU hH h dX4_gotData_511 (fun w H locs hH h => ?_)
        refine hx_aload_n C0 dX4_gotData_512 rfl (lv_at hl 0 rfl) ?_
        refine hx_aload C0 dX4_gotData_513 (lv_at hl 6 rfl) ?_
        refine hx_pV C0 hU hH (ci := 3) rfl in_X4 tyX4 tyX4_ok nmX4 25 (by decide) q1096 (fun _ h9 => h9) (Or.inl rfl) (hx_fa _ _).1 (hx_fa _ _).2 h dX4_gotData_515 (fun w H locs hH h => ?_)
        refine hx_aload_n C0 dX4_gotData_518 rfl (lv_at hl 0 rfl) ?_
        refine hx_gR C0 hU hH (ci := 3) rfl in_X4 6 (by decide) q1077 (fun _ h9 => h9) h dX4_gotData_519 (fun r_9 h => ?_)
        refine lv_iload_n hx hb dX4_gotData_522 rfl (lv_at hl 1 rfl) ?_
        refine lv_dup2_11 hx hb dX4_gotData_523 rfl (hx_rfc _) ?_
        obtain ⟨b_10, rfl, h9⟩ := h
        have h := h9
        clear h9
        refine hx_aI C0 hU hH h dX4_gotData_524 (fun i_11 h => ?_)
        refine lv_iconst (v := 1) hx hb dX4_gotData_525 (by decide) ?_
        refine lv_iadd hx hb dX4_gotData_526 ?_
        refine hx_sI C0 hU hH h dX4_gotData_527 (fun w H locs hH h => ?_)
        refine lv_iconst (v := 1) hx hb dX4_gotData_528 (by decide) ?_
        exact hx_reti C0 hH hr hlocks h (Nat.le_of_ble_eq_true rfl) (Nat.le_of_ble_eq_true rfl) dX4_gotData_529
      · have h := h.2 c_4
        refine hx_aload C0 dX4_gotData_459 (lv_at hl 6 rfl) ?_
        refine lv_iload hx hb dX4_gotData_461 (lv_at hl 7 rfl) ?_
        refine hx_aload_n C0 dX4_gotData_463 rfl (lv_at hl 0 rfl) ?_
        refine hx_gR C0 hU hH (ci := 3) rfl in_X4 25 (by decide) q1096 (fun _ h9 => h9) h dX4_gotData_464 (fun r_12 h => ?_)
        refine lv_iload hx hb dX4_gotData_467 (lv_at hl 7 rfl) ?_
        obtain ⟨b_13, rfl, h9⟩ := h
        have h := h9
        clear h9
        refine hx_aR C0 hU hH h dX4_gotData_469 (fun r_14 h => ?_)
        refine hx_sR C0 hU hH h dX4_gotData_470 (fun w H locs hH h => ?_)
        obtain ⟨i_15, ei_15⟩ : ∃ z, z = x12 + 1 := ⟨_, rfl⟩
        have h := h i_15 ei_15
        refine lv_iinc (k := 7) hx hb dX4_gotData_471 hl rfl (v := i_15) (by rw [ei_15]; rfl) (by decide) (lv' := [(12, .int i_15), (0, va_rf (some a0)), (1, .int x1), (5, .int x5), (6, .int x6), (7, .int x7), (8, .int x8), (11, va_rf (some a11))]) rfl (fun ls hl => ?_)
        refine lv_goto hx hb dX4_gotData_474 (tgt := 449) (by decide) ?_
        refine W.widen (k := 19) (n := 259) (Nat.le_of_ble_eq_true rfl) (Nat.le_of_ble_eq_true rfl) ?_
        exact ih449 _ _ _ _ _ _ _ _ _ h _ _ _ hH (lv_sub hl [1, 2, 3, 4, 5, 6, 7, 0] rfl)
  have b419 : ∀ (w : Hp) (a0 : Nat) (x1 : Int32) (x5 : Int32) (x6 : Int32) (x7 : Int32) (x8 : Int32), wp_X4_gotData_b419 K  w a0 x1 x5 x6 x7 x8 → ∀ (H : Heap) (locs : List Loc) (ls : Array Slot), hx_H G w s H locs → lv_has ls 13 [(0, va_rf (some a0)), (1, .int x1), (5, .int x5), (6, .int x6), (7, .int x7), (8, .int x8)] → W p l e (headSpec (ws9_X4_gotData) rm_X4_gotData).room s m args below meth c H locs (18) (195) (Q9_X4_gotData below args s G K) (F0 m 419 ls []) := by
    intro w a0 x1 x5 x6 x7 x8 h H locs ls hH hl
    refine hx_aload_n C0 dX4_gotData_419 rfl (lv_at hl 0 rfl) ?_
    refine lv_iload_n hx hb dX4_gotData_420 rfl (lv_at hl 1 rfl) ?_
    refine lv_iload hx hb dX4_gotData_421 (lv_at hl 2 rfl) ?_
    obtain ⟨ho, h⟩ := h
    refine hx_Vi C0 hU hH (As := [.int x1, .int x5]) (wk_X4_given l h) (cwV 2 hts (lw_V q1208 q1210 qs36 q71 q1211) rfl rfl rfl (by decide +kernel) ⟨Nat.le_of_ble_eq_true rfl, Nat.le_of_ble_eq_true rfl⟩) (hx_recv hU hH (ci := 3) rfl ho) rfl hl.1 rfl (Nat.le_of_ble_eq_true rfl) dX4_gotData_423 ⟨Nat.le_of_ble_eq_true rfl, Nat.le_of_ble_eq_true rfl⟩ (fun i_1 w H locs hH h => ?_)
    refine lv_iload hx hb dX4_gotData_426 (lv_at hl 5 rfl) ?_
    refine lv_icmp_eq hx hb dX4_gotData_428 (tgt := 434) (by decide) (fun c_2 => ?_) (fun c_2 => ?_)
    · have h := h.1 c_2
      refine hx_aload_n C0 dX4_gotData_434 rfl (lv_at hl 0 rfl) ?_
      refine hx_gR C0 hU hH (ci := 3) rfl in_X4 25 (by decide) q1096 (fun _ h9 => h9) h dX4_gotData_435 (fun r_3 h => ?_)
      obtain ⟨b_4, rfl, h9⟩ := h
      have h := h9
      clear h9
      refine hx_aN C0 hU hH h dX4_gotData_438 (fun i_5 h => ?_)
      refine lv_iconst (v := 1) hx hb dX4_gotData_439 (by decide) ?_
      refine lv_iadd hx hb dX4_gotData_440 ?_
      refine hx_nRI C0 hU hH q1339 (Nat.le_of_ble_eq_true rfl) (Nat.le_of_ble_eq_true rfl) (Nat.le_of_ble_eq_true rfl) h dX4_gotData_441 (fun b_6 w H locs hH h => ?_)
      refine hx_astore C0 dX4_gotData_444 hl (by decide) (lv' := [(11, va_rf (some b_6)), (0, va_rf (some a0)), (1, .int x1), (5, .int x5), (6, .int x6), (7, .int x7), (8, .int x8)]) rfl (fun ls hl => ?_)
      refine lv_iconst (v := 0) hx hb dX4_gotData_446 (by decide) ?_
      refine lv_istore hx hb dX4_gotData_447 hl (by decide) (lv' := [(12, .int (0 : Int32)), (11, va_rf (some b_6)), (0, va_rf (some a0)), (1, .int x1), (5, .int x5), (6, .int x6), (7, .int x7), (8, .int x8)]) rfl (fun ls hl => ?_)
      obtain ⟨n9, h⟩ := h
      refine W.widen (k := 19) (n := 259) (Nat.le_of_ble_eq_true rfl) (Nat.le_of_ble_eq_true rfl) ?_
      exact L449 n9 _ _ _ _ _ _ _ _ _ h _ _ _ hH (lv_sub hl [2, 3, 4, 5, 6, 7, 1, 0] rfl)
    · have h := h.2 c_2
      refine lv_bipush (v := -5) hx hb dX4_gotData_431 (by decide) ?_
      exact hx_reti C0 hH hr hlocks h (Nat.le_of_ble_eq_true rfl) (Nat.le_of_ble_eq_true rfl) dX4_gotData_433
  have b399 : ∀ (w : Hp) (a0 : Nat) (x1 : Int32) (x5 : Int32) (x6 : Int32) (x7 : Int32) (x8 : Int32), wp_X4_gotData_b399 K  w a0 x1 x5 x6 x7 x8 → ∀ (H : Heap) (locs : List Loc) (ls : Array Slot), hx_H G w s H locs → lv_has ls 13 [(0, va_rf (some a0)), (1, .int x1), (5, .int x5), (6, .int x6), (7, .int x7), (8, .int x8)] → W p l e (headSpec (ws9_X4_gotData) rm_X4_gotData).room s m args below meth c H locs (18) (195) (Q9_X4_gotData below args s G K) (F0 m 399 ls []) := by
    intro w a0 x1 x5 x6 x7 x8 h H locs ls hH hl
    refine lv_iload hx hb dX4_gotData_399 (lv_at hl 2 rfl) ?_
    refine lv_iconst (v := -1) hx hb dX4_gotData_401 (by decide) ?_
    refine lv_icmp_ne hx hb dX4_gotData_402 (tgt := 419) (by decide) (fun c_1 => ?_) (fun c_1 => ?_)
    · have h := h.2 c_1
      refine W.widen (k := 18) (n := 195) (Nat.le_of_ble_eq_true rfl) (Nat.le_of_ble_eq_true rfl) ?_
      exact b419 _ _ _ _ _ _ _ h _ _ _ hH (lv_sub hl [0, 1, 2, 3, 4, 5] rfl)
    · have h := h.1 c_1
      refine lv_iload hx hb dX4_gotData_405 (lv_at hl 3 rfl) ?_
      refine lv_iconst (v := -1) hx hb dX4_gotData_407 (by decide) ?_
      refine lv_icmp_ne hx hb dX4_gotData_408 (tgt := 419) (by decide) (fun c_2 => ?_) (fun c_2 => ?_)
      · have h := h.2 c_2
        refine W.widen (k := 18) (n := 195) (Nat.le_of_ble_eq_true rfl) (Nat.le_of_ble_eq_true rfl) ?_
        exact b419 _ _ _ _ _ _ _ h _ _ _ hH (lv_sub hl [0, 1, 2, 3, 4, 5] rfl)
      · have h := h.1 c_2
        refine lv_iload hx hb dX4_gotData_411 (lv_at hl 4 rfl) ?_
        refine lv_iconst (v := -1) hx hb dX4_gotData_413 (by decide) ?_
        refine lv_icmp_ne hx hb dX4_gotData_414 (tgt := 419) (by decide) (fun c_3 => ?_) (fun c_3 => ?_)
        · have h := h.2 c_3
          refine W.widen (k := 18) (n := 195) (Nat.le_of_ble_eq_true rfl) (Nat.le_of_ble_eq_true rfl) ?_
          exact b419 _ _ _ _ _ _ _ h _ _ _ hH (lv_sub hl [0, 1, 2, 3, 4, 5] rfl)
        · have h := h.1 c_3
          refine lv_iconst (v := 2) hx hb dX4_gotData_417 (by decide) ?_
          exact hx_reti C0 hH hr hlocks h (Nat.le_of_ble_eq_true rfl) (Nat.le_of_ble_eq_true rfl) dX4_gotData_418
  have b278 : ∀ (w : Hp) (a0 : Nat) (x1 : Int32) (a2 : Nat) (x4 : Int32) (x5 : Int32) (x6 : Int32) (x7 : Int32) (x8 : Int32) (x9 : Int32) (a10 : Nat), wp_X4_gotData_b278 K  w a0 x1 a2 x4 x5 x6 x7 x8 x9 a10 → ∀ (H : Heap) (locs : List Loc) (ls : Array Slot), hx_H G w s H locs → lv_has ls 13 [(0, va_rf (some a0)), (1, .int x1), (2, va_rf (some a2)), (4, .int x4), (5, .int x5), (6, .int x6), (7, .int x7), (8, .int x8), (9, .int x9), (10, va_rf (some a10))] → W p l e (headSpec (ws9_X4_gotData) rm_X4_gotData).room s m args below meth c H locs (1) (6) (Q9_X4_gotData below args s G K) (F0 m 278 ls []) := by
    intro w a0 x1 a2 x4 x5 x6 x7 x8 x9 a10 h H locs ls hH hl
    refine hx_aload C0 dX4_gotData_278 (lv_at hl 9 rfl) ?_
    refine lv_bipush (v := 7) hx hb dX4_gotData_280 (by decide) ?_
    refine hx_aload C0 dX4_gotData_282 (lv_at hl 9 rfl) ?_
    refine lv_bipush (v := 7) hx hb dX4_gotData_284 (by decide) ?_
    refine hx_aI C0 hU hH h dX4_gotData_286 (fun i_1 h => ?_)
    refine lv_iload hx hb dX4_gotData_287 (lv_at hl 3 rfl) ?_
    refine hx_Si C0 hU hH (As := [.int i_1, .int x4]) (wk_J4_max l h) (va_cwS 2 hts (lw_S q1252 q174 q66 q175) rfl rfl rfl (by decide +kernel) ⟨Nat.le_of_ble_eq_true rfl, Nat.le_of_ble_eq_true rfl⟩) rfl hl.1 rfl (Nat.le_of_ble_eq_true rfl) dX4_gotData_289 ⟨Nat.le_of_ble_eq_true rfl, Nat.le_of_ble_eq_true rfl⟩ (fun i_2 w H locs hH h => ?_)
    refine hx_sI C0 hU hH h dX4_gotData_292 (fun w H locs hH h => ?_)
    refine hx_aload C0 dX4_gotData_293 (lv_at hl 9 rfl) ?_
    refine lv_bipush (v := 8) hx hb dX4_gotData_295 (by decide) ?_
    refine lv_dup2_11 hx hb dX4_gotData_297 rfl rfl ?_
    refine hx_aI C0 hU hH h dX4_gotData_298 (fun i_3 h => ?_)
    refine lv_iconst (v := 1) hx hb dX4_gotData_299 (by decide) ?_
    refine lv_iadd hx hb dX4_gotData_300 ?_
    refine hx_sI C0 hU hH h dX4_gotData_301 (fun w H locs hH h => ?_)
    refine hx_aload_n C0 dX4_gotData_302 rfl (lv_at hl 0 rfl) ?_
    refine hx_gR C0 hU hH (ci := 3) rfl in_X4 10 (by decide) q1081 (fun _ h9 => h9) h dX4_gotData_303 (fun r_4 h => ?_)
    refine lv_iload_n hx hb dX4_gotData_306 rfl (lv_at hl 1 rfl) ?_
    obtain ⟨b_5, rfl, h9⟩ := h
    have h := h9
    clear h9
    refine hx_aR C0 hU hH h dX4_gotData_307 (fun r_6 h => ?_)
    refine lv_iload hx hb dX4_gotData_308 (lv_at hl 7 rfl) ?_
    refine hx_aload_n C0 dX4_gotData_310 rfl (lv_at hl 2 rfl) ?_
    refine lv_iconst (v := 0) hx hb dX4_gotData_311 (by decide) ?_
    refine hx_aI C0 hU hH h dX4_gotData_312 (fun i_7 h => ?_)
    obtain ⟨b_8, rfl, h9⟩ := h
    have h := h9
    clear h9
    refine hx_sI C0 hU hH h dX4_gotData_313 (fun w H locs hH h => ?_)
    refine lv_iload hx hb dX4_gotData_314 (lv_at hl 8 rfl) ?_
    refine lv_iconst (v := 2) hx hb dX4_gotData_316 (by decide) ?_
    refine lv_icmp_ne hx hb dX4_gotData_317 (tgt := 399) (by decide) (fun c_9 => ?_) (fun c_9 => ?_)
    · have h := h.2 c_9
      refine W.widen (k := 18) (n := 195) (Nat.le_of_ble_eq_true rfl) (Nat.le_of_ble_eq_true rfl) ?_
      exact b399 _ _ _ _ _ _ _ h _ _ _ hH (lv_sub hl [0, 1, 4, 5, 6, 7] rfl)
    · have h := h.1 c_9
      refine hx_aload_n C0 dX4_gotData_320 rfl (lv_at hl 0 rfl) ?_
      refine lv_iload_n hx hb dX4_gotData_321 rfl (lv_at hl 1 rfl) ?_
      refine lv_iload hx hb dX4_gotData_322 (lv_at hl 7 rfl) ?_
      obtain ⟨ho, h⟩ := h
      refine hx_Vv C0 hU hH (As := [.int x1, .int x8]) (wk_X4_turnOver l h) (cwV 2 hts (lw_V q1322 q1324 qs53 q71 q1325) rfl rfl rfl (by decide +kernel) ⟨Nat.le_of_ble_eq_true rfl, Nat.le_of_ble_eq_true rfl⟩) (hx_recv hU hH (ci := 3) rfl ho) rfl hl.1 rfl (Nat.le_of_ble_eq_true rfl) dX4_gotData_324 ⟨Nat.le_of_ble_eq_true rfl, Nat.le_of_ble_eq_true rfl⟩ (fun w H locs hH h => ?_)
      refine hx_aload_n C0 dX4_gotData_327 rfl (lv_at hl 0 rfl) ?_
      refine hx_gR C0 hU hH (ci := 3) rfl in_X4 21 (by decide) q1092 (fun _ h9 => h9) h dX4_gotData_328 (fun r_10 h => ?_)
      refine lv_iload_n hx hb dX4_gotData_331 rfl (lv_at hl 1 rfl) ?_
      obtain ⟨b_11, rfl, h9⟩ := h
      have h := h9
      clear h9
      refine hx_aR C0 hU hH h dX4_gotData_332 (fun r_12 h => ?_)
      refine lv_iload hx hb dX4_gotData_333 (lv_at hl 7 rfl) ?_
      obtain ⟨b_13, rfl, h9⟩ := h
      have h := h9
      clear h9
      refine hx_aR C0 hU hH h dX4_gotData_335 (fun r_14 h => ?_)
      refine lv_iconst (v := 1) hx hb dX4_gotData_336 (by decide) ?_
      refine hx_aload C0 dX4_gotData_337 (lv_at hl 9 rfl) ?_
      obtain ⟨b_15, rfl, h9⟩ := h
      have h := h9
      clear h9
      refine hx_sR C0 hU hH h dX4_gotData_339 (fun w H locs hH h => ?_)
      refine hx_aload_n C0 dX4_gotData_340 rfl (lv_at hl 0 rfl) ?_
      refine hx_gR C0 hU hH (ci := 3) rfl in_X4 22 (by decide) q1093 (fun _ h9 => h9) h dX4_gotData_341 (fun r_16 h => ?_)
      refine lv_iload_n hx hb dX4_gotData_344 rfl (lv_at hl 1 rfl) ?_
      obtain ⟨b_17, rfl, h9⟩ := h
      have h := h9
      clear h9
      refine hx_aR C0 hU hH h dX4_gotData_345 (fun r_18 h => ?_)
      refine lv_iload hx hb dX4_gotData_346 (lv_at hl 7 rfl) ?_
      obtain ⟨b_19, rfl, h9⟩ := h
      have h := h9
      clear h9
      refine hx_aR C0 hU hH h dX4_gotData_348 (fun r_20 h => ?_)
      refine lv_iconst (v := 1) hx hb dX4_gotData_349 (by decide) ?_
      refine hx_aload_n C0 dX4_gotData_350 rfl (lv_at hl 0 rfl) ?_
      refine hx_gR C0 hU hH (ci := 3) rfl in_X4 22 (by decide) q1093 (fun _ h9 => h9) h dX4_gotData_351 (fun r_21 h => ?_)
      refine lv_iload_n hx hb dX4_gotData_354 rfl (lv_at hl 1 rfl) ?_
      obtain ⟨b_22, rfl, h9⟩ := h
      have h := h9
      clear h9
      refine hx_aR C0 hU hH h dX4_gotData_355 (fun r_23 h => ?_)
      refine lv_iload hx hb dX4_gotData_356 (lv_at hl 7 rfl) ?_
      obtain ⟨b_24, rfl, h9⟩ := h
      have h := h9
      clear h9
      refine hx_aR C0 hU hH h dX4_gotData_358 (fun r_25 h => ?_)
      refine lv_iconst (v := 2) hx hb dX4_gotData_359 (by decide) ?_
      obtain ⟨b_26, rfl, h9⟩ := h
      have h := h9
      clear h9
      refine hx_aR C0 hU hH h dX4_gotData_360 (fun r_27 h => ?_)
      obtain ⟨b_28, rfl, h9⟩ := h
      have h := h9
      clear h9
      refine hx_sR C0 hU hH h dX4_gotData_361 (fun w H locs hH h => ?_)
      refine hx_aload_n C0 dX4_gotData_362 rfl (lv_at hl 0 rfl) ?_
      refine hx_gR C0 hU hH (ci := 3) rfl in_X4 21 (by decide) q1092 (fun _ h9 => h9) h dX4_gotData_363 (fun r_29 h => ?_)
      refine lv_iload_n hx hb dX4_gotData_366 rfl (lv_at hl 1 rfl) ?_
      obtain ⟨b_30, rfl, h9⟩ := h
      have h := h9
      clear h9
      refine hx_aR C0 hU hH h dX4_gotData_367 (fun r_31 h => ?_)
      refine lv_iload hx hb dX4_gotData_368 (lv_at hl 7 rfl) ?_
      obtain ⟨b_32, rfl, h9⟩ := h
      have h := h9
      clear h9
      refine hx_aR C0 hU hH h dX4_gotData_370 (fun r_33 h => ?_)
      refine lv_iconst (v := 2) hx hb dX4_gotData_371 (by decide) ?_
      refine lv_bipush (v := 9) hx hb dX4_gotData_372 (by decide) ?_
      refine hx_nI C0 hU hH (Nat.le_of_ble_eq_true rfl) (Nat.le_of_ble_eq_true rfl) (Nat.le_of_ble_eq_true rfl) h dX4_gotData_374 (fun b_34 w H locs hH h => ?_)
      obtain ⟨b_35, rfl, h9⟩ := h
      have h := h9
      clear h9
      refine hx_sR C0 hU hH h dX4_gotData_376 (fun w H locs hH h => ?_)
      refine hx_aload_n C0 dX4_gotData_377 rfl (lv_at hl 0 rfl) ?_
      refine hx_gR C0 hU hH (ci := 3) rfl in_X4 22 (by decide) q1093 (fun _ h9 => h9) h dX4_gotData_378 (fun r_36 h => ?_)
      refine lv_iload_n hx hb dX4_gotData_381 rfl (lv_at hl 1 rfl) ?_
      obtain ⟨b_37, rfl, h9⟩ := h
      have h := h9
      clear h9
      refine hx_aR C0 hU hH h dX4_gotData_382 (fun r_38 h => ?_)
      refine lv_iload hx hb dX4_gotData_383 (lv_at hl 7 rfl) ?_
      obtain ⟨b_39, rfl, h9⟩ := h
      have h := h9
      clear h9
      refine hx_aR C0 hU hH h dX4_gotData_385 (fun r_40 h => ?_)
      refine lv_iconst (v := 2) hx hb dX4_gotData_386 (by decide) ?_
      refine lv_bipush (v := 40) hx hb dX4_gotData_387 (by decide) ?_
      refine hx_nZ C0 hU hH (Nat.le_of_ble_eq_true rfl) (Nat.le_of_ble_eq_true rfl) (Nat.le_of_ble_eq_true rfl) h dX4_gotData_389 (fun b_41 w H locs hH h => ?_)
      obtain ⟨b_42, rfl, h9⟩ := h
      have h := h9
      clear h9
      refine hx_sR C0 hU hH h dX4_gotData_391 (fun w H locs hH h => ?_)
      refine hx_aload_n C0 dX4_gotData_392 rfl (lv_at hl 0 rfl) ?_
      refine lv_iload_n hx hb dX4_gotData_393 rfl (lv_at hl 1 rfl) ?_
      refine lv_iload hx hb dX4_gotData_394 (lv_at hl 7 rfl) ?_
      obtain ⟨ho, h⟩ := h
      refine hx_Vv C0 hU hH (As := [.int x1, .int x8]) (wk_X4_sendWaiting l h) (cwV 2 hts (lw_V q1326 q1328 qs54 q71 q1329) rfl rfl rfl (by decide +kernel) ⟨Nat.le_of_ble_eq_true rfl, Nat.le_of_ble_eq_true rfl⟩) (hx_recv hU hH (ci := 3) rfl ho) rfl hl.1 rfl (Nat.le_of_ble_eq_true rfl) dX4_gotData_396 ⟨Nat.le_of_ble_eq_true rfl, Nat.le_of_ble_eq_true rfl⟩ (fun w H locs hH h => ?_)
      refine W.widen (k := 18) (n := 195) (Nat.le_of_ble_eq_true rfl) (Nat.le_of_ble_eq_true rfl) ?_
      exact b399 _ _ _ _ _ _ _ h _ _ _ hH (lv_sub hl [0, 1, 4, 5, 6, 7] rfl)
  have b249 : ∀ (w : Hp) (a0 : Nat) (x1 : Int32) (a2 : Nat) (x4 : Int32) (x5 : Int32) (x6 : Int32) (x7 : Int32) (x8 : Int32) (x9 : Int32) (a10 : Nat), wp_X4_gotData_b249 K  w a0 x1 a2 x4 x5 x6 x7 x8 x9 a10 → ∀ (H : Heap) (locs : List Loc) (ls : Array Slot), hx_H G w s H locs → lv_has ls 13 [(0, va_rf (some a0)), (1, .int x1), (2, va_rf (some a2)), (4, .int x4), (5, .int x5), (6, .int x6), (7, .int x7), (8, .int x8), (9, .int x9), (10, va_rf (some a10))] → W p l e (headSpec (ws9_X4_gotData) rm_X4_gotData).room s m args below meth c H locs (1) (6) (Q9_X4_gotData below args s G K) (F0 m 249 ls []) := by
    intro w a0 x1 a2 x4 x5 x6 x7 x8 x9 a10 h H locs ls hH hl
    refine lv_iload hx hb dX4_gotData_249 (lv_at hl 3 rfl) ?_
    refine lv_i2l hx hb dX4_gotData_251 rfl ?_
    refine lv_lconst (v := 0) hx hb dX4_gotData_252 (by decide) ?_
    refine lv_ldc2 (v := 39) hx hb C0.2.2.2.1 (hts _ q1338) dX4_gotData_253 ?_
    refine hx_Si C0 hU hH (As := [.long (x4.toInt64), .long (0 : Int64), .long (39 : Int64)]) (wk_X4_isBetween l h) (va_cwS 3 hts (lw_S q1162 q1163 q71 q1164) rfl rfl rfl (by decide +kernel) ⟨Nat.le_of_ble_eq_true rfl, Nat.le_of_ble_eq_true rfl⟩) rfl hl.1 rfl (Nat.le_of_ble_eq_true rfl) dX4_gotData_256 ⟨Nat.le_of_ble_eq_true rfl, Nat.le_of_ble_eq_true rfl⟩ (fun i_1 w H locs hH h => ?_)
    refine lv_if_eq hx hb dX4_gotData_259 (tgt := 278) (by decide) (fun c_2 => ?_) (fun c_2 => ?_)
    · have h := h.1 c_2
      refine W.widen (k := 1) (n := 6) (Nat.le_of_ble_eq_true rfl) (Nat.le_of_ble_eq_true rfl) ?_
      exact b278 _ _ _ _ _ _ _ _ _ _ _ h _ _ _ hH (lv_sub hl [0, 1, 2, 3, 4, 5, 6, 7, 8, 9] rfl)
    · have h := h.2 c_2
      refine hx_aload_n C0 dX4_gotData_262 rfl (lv_at hl 0 rfl) ?_
      refine hx_gR C0 hU hH (ci := 3) rfl in_X4 22 (by decide) q1093 (fun _ h9 => h9) h dX4_gotData_263 (fun r_3 h => ?_)
      refine lv_iload_n hx hb dX4_gotData_266 rfl (lv_at hl 1 rfl) ?_
      obtain ⟨b_4, rfl, h9⟩ := h
      have h := h9
      clear h9
      refine hx_aR C0 hU hH h dX4_gotData_267 (fun r_5 h => ?_)
      refine lv_iload hx hb dX4_gotData_268 (lv_at hl 7 rfl) ?_
      obtain ⟨b_6, rfl, h9⟩ := h
      have h := h9
      clear h9
      refine hx_aR C0 hU hH h dX4_gotData_270 (fun r_7 h => ?_)
      refine lv_iload hx hb dX4_gotData_271 (lv_at hl 8 rfl) ?_
      obtain ⟨b_8, rfl, h9⟩ := h
      have h := h9
      clear h9
      refine hx_aR C0 hU hH h dX4_gotData_273 (fun r_9 h => ?_)
      refine lv_iload hx hb dX4_gotData_274 (lv_at hl 3 rfl) ?_
      refine lv_iconst (v := 1) hx hb dX4_gotData_276 (by decide) ?_
      obtain ⟨b_10, rfl, h9⟩ := h
      have h := h9
      clear h9
      refine hx_sZ C0 hU hH h dX4_gotData_277 (fun w H locs hH h => ?_)
      refine W.widen (k := 1) (n := 6) (Nat.le_of_ble_eq_true rfl) (Nat.le_of_ble_eq_true rfl) ?_
      exact b278 _ _ _ _ _ _ _ _ _ _ _ h _ _ _ hH (lv_sub hl [0, 1, 2, 3, 4, 5, 6, 7, 8, 9] rfl)
  have b246 : ∀ (w : Hp) , wp_X4_gotData_b246 K  w  → ∀ (H : Heap) (locs : List Loc) (ls : Array Slot), hx_H G w s H locs → lv_has ls 13 [] → W p l e (headSpec (ws9_X4_gotData) rm_X4_gotData).room s m args below meth c H locs (1) (6) (Q9_X4_gotData below args s G K) (F0 m 246 ls []) := by
    intro w  h H locs ls hH hl
    refine lv_bipush (v := -3) hx hb dX4_gotData_246 (by decide) ?_
    exact hx_reti C0 hH hr hlocks h (Nat.le_of_ble_eq_true rfl) (Nat.le_of_ble_eq_true rfl) dX4_gotData_248
  have b225 : ∀ (w : Hp) (a0 : Nat) (x1 : Int32) (a2 : Nat) (x4 : Int32) (x5 : Int32) (x6 : Int32) (x7 : Int32) (x8 : Int32) (x9 : Int32) (a10 : Nat), wp_X4_gotData_b225 K  w a0 x1 a2 x4 x5 x6 x7 x8 x9 a10 → ∀ (H : Heap) (locs : List Loc) (ls : Array Slot), hx_H G w s H locs → lv_has ls 13 [(0, va_rf (some a0)), (1, .int x1), (2, va_rf (some a2)), (4, .int x4), (5, .int x5), (6, .int x6), (7, .int x7), (8, .int x8), (9, .int x9), (10, va_rf (some a10))] → W p l e (headSpec (ws9_X4_gotData) rm_X4_gotData).room s m args below meth c H locs (1) (6) (Q9_X4_gotData below args s G K) (F0 m 225 ls []) := by
    intro w a0 x1 a2 x4 x5 x6 x7 x8 x9 a10 h H locs ls hH hl
    refine hx_aload C0 dX4_gotData_225 (lv_at hl 9 rfl) ?_
    refine lv_bipush (v := 8) hx hb dX4_gotData_227 (by decide) ?_
    refine hx_aI C0 hU hH h dX4_gotData_229 (fun i_1 h => ?_)
    refine lv_if_le hx hb dX4_gotData_230 (tgt := 249) (by decide) (fun c_2 => ?_) (fun c_2 => ?_)
    · have h := h.1 c_2
      refine W.widen (k := 1) (n := 6) (Nat.le_of_ble_eq_true rfl) (Nat.le_of_ble_eq_true rfl) ?_
      exact b249 _ _ _ _ _ _ _ _ _ _ _ h _ _ _ hH (lv_sub hl [0, 1, 2, 3, 4, 5, 6, 7, 8, 9] rfl)
    · have h := h.2 c_2
      refine lv_iload hx hb dX4_gotData_233 (lv_at hl 3 rfl) ?_
      refine hx_aload C0 dX4_gotData_235 (lv_at hl 9 rfl) ?_
      refine lv_bipush (v := 7) hx hb dX4_gotData_237 (by decide) ?_
      refine hx_aI C0 hU hH h dX4_gotData_239 (fun i_3 h => ?_)
      refine lv_bipush (v := 16) hx hb dX4_gotData_240 (by decide) ?_
      refine lv_isub hx hb dX4_gotData_242 ?_
      refine lv_icmp_gt hx hb dX4_gotData_243 (tgt := 249) (by decide) (fun c_4 => ?_) (fun c_4 => ?_)
      · have h := h.1 c_4
        refine W.widen (k := 1) (n := 6) (Nat.le_of_ble_eq_true rfl) (Nat.le_of_ble_eq_true rfl) ?_
        exact b249 _ _ _ _ _ _ _ _ _ _ _ h _ _ _ hH (lv_sub hl [0, 1, 2, 3, 4, 5, 6, 7, 8, 9] rfl)
      · have h := h.2 c_4
        refine W.widen (k := 1) (n := 6) (Nat.le_of_ble_eq_true rfl) (Nat.le_of_ble_eq_true rfl) ?_
        exact b246 _  h _ _ _ hH (lv_sub hl [] rfl)
  have L35 : ∀ (n35 : Nat) (w : Hp) (a0 : Nat) (x1 : Int32) (a2 : Nat) (x3 : Int32) (x4 : Int32) (x5 : Int32) (x6 : Int32) (x7 : Int32) (x8 : Int32) (x9 : Int32) (x10 : Int32), lpN (wp_X4_gotData_l35 K ) n35 (w, a0, x1, a2, x3, x4, x5, x6, x7, x8, x9, x10) → ∀ (H : Heap) (locs : List Loc) (ls : Array Slot), hx_H G w s H locs → lv_has ls 13 [(0, va_rf (some a0)), (1, .int x1), (2, va_rf (some a2)), (3, .int x3), (4, .int x4), (5, .int x5), (6, .int x6), (7, .int x7), (8, .int x8), (9, .int x9), (10, .int x10)] → W p l e (headSpec (ws9_X4_gotData) rm_X4_gotData).room s m args below meth c H locs (0) (0) (Q9_X4_gotData below args s G K) (F0 m 35 ls []) := by
    intro n35
    induction n35 with
    | zero => intro w a0 x1 a2 x3 x4 x5 x6 x7 x8 x9 x10 h; exact h.elim
    | succ n35 ih35 =>
      intro w a0 x1 a2 x3 x4 x5 x6 x7 x8 x9 x10 h H locs ls hH hl
      have h : wp_X4_gotData_s35 K  (fun w a0 x1 a2 x3 x4 x5 x6 x7 x8 x9 x10 => lpN (wp_X4_gotData_l35 K ) n35 (w, a0, x1, a2, x3, x4, x5, x6, x7, x8, x9, x10)) w a0 x1 a2 x3 x4 x5 x6 x7 x8 x9 x10 := h
      have L44 : ∀ (n44 : Nat) (w : Hp) (a0 : Nat) (x1 : Int32) (a2 : Nat) (x3 : Int32) (x4 : Int32) (x5 : Int32) (x6 : Int32) (x7 : Int32) (x8 : Int32) (x9 : Int32) (x10 : Int32) (x11 : Int32), lpN (wp_X4_gotData_l44 K (fun w a0 x1 a2 x3 x4 x5 x6 x7 x8 x9 x10 => lpN (wp_X4_gotData_l35 K ) n35 (w, a0, x1, a2, x3, x4, x5, x6, x7, x8, x9, x10))) n44 (w, a0, x1, a2, x3, x4, x5, x6, x7, x8, x9, x10, x11) → ∀ (H : Heap) (locs : List Loc) (ls : Array Slot), hx_H G w s H locs → lv_has ls 13 [(0, va_rf (some a0)), (1, .int x1), (2, va_rf (some a2)), (3, .int x3), (4, .int x4), (5, .int x5), (6, .int x6), (7, .int x7), (8, .int x8), (9, .int x9), (10, .int x10), (11, .int x11)] → W p l e (headSpec (ws9_X4_gotData) rm_X4_gotData).room s m args below meth c H locs (0) (0) (Q9_X4_gotData below args s G K) (F0 m 44 ls []) := by
        intro n44
        induction n44 with
        | zero => intro w a0 x1 a2 x3 x4 x5 x6 x7 x8 x9 x10 x11 h; exact h.elim
        | succ n44 ih44 =>
          intro w a0 x1 a2 x3 x4 x5 x6 x7 x8 x9 x10 x11 h H locs ls hH hl
          have h : wp_X4_gotData_s44 K (fun w a0 x1 a2 x3 x4 x5 x6 x7 x8 x9 x10 => lpN (wp_X4_gotData_l35 K ) n35 (w, a0, x1, a2, x3, x4, x5, x6, x7, x8, x9, x10)) (fun w a0 x1 a2 x3 x4 x5 x6 x7 x8 x9 x10 x11 => lpN (wp_X4_gotData_l44 K (fun w a0 x1 a2 x3 x4 x5 x6 x7 x8 x9 x10 => lpN (wp_X4_gotData_l35 K ) n35 (w, a0, x1, a2, x3, x4, x5, x6, x7, x8, x9, x10))) n44 (w, a0, x1, a2, x3, x4, x5, x6, x7, x8, x9, x10, x11)) w a0 x1 a2 x3 x4 x5 x6 x7 x8 x9 x10 x11 := h
          have b94 : ∀ (w : Hp) (a0 : Nat) (x1 : Int32) (a2 : Nat) (x3 : Int32) (x4 : Int32) (x5 : Int32) (x6 : Int32) (x7 : Int32) (x8 : Int32) (x9 : Int32) (x10 : Int32) (x11 : Int32), wp_X4_gotData_b94 K (fun w a0 x1 a2 x3 x4 x5 x6 x7 x8 x9 x10 => lpN (wp_X4_gotData_l35 K ) n35 (w, a0, x1, a2, x3, x4, x5, x6, x7, x8, x9, x10)) (fun w a0 x1 a2 x3 x4 x5 x6 x7 x8 x9 x10 x11 => lpN (wp_X4_gotData_l44 K (fun w a0 x1 a2 x3 x4 x5 x6 x7 x8 x9 x10 => lpN (wp_X4_gotData_l35 K ) n35 (w, a0, x1, a2, x3, x4, x5, x6, x7, x8, x9, x10))) n44 (w, a0, x1, a2, x3, x4, x5, x6, x7, x8, x9, x10, x11)) w a0 x1 a2 x3 x4 x5 x6 x7 x8 x9 x10 x11 → ∀ (H : Heap) (locs : List Loc) (ls : Array Slot), hx_H G w s H locs → lv_has ls 13 [(0, va_rf (some a0)), (1, .int x1), (2, va_rf (some a2)), (3, .int x3), (4, .int x4), (5, .int x5), (6, .int x6), (7, .int x7), (8, .int x8), (9, .int x9), (10, .int x10), (11, .int x11)] → W p l e (headSpec (ws9_X4_gotData) rm_X4_gotData).room s m args below meth c H locs (0) (0) (Q9_X4_gotData below args s G K) (F0 m 94 ls []) := by
            intro w a0 x1 a2 x3 x4 x5 x6 x7 x8 x9 x10 x11 h H locs ls hH hl
            obtain ⟨i_1, ei_1⟩ : ∃ z, z = x11 + 1 := ⟨_, rfl⟩
            have h := h i_1 ei_1
            refine lv_iinc (k := 11) hx hb dX4_gotData_94 hl rfl (v := i_1) (by rw [ei_1]; rfl) (by decide) (lv' := [(11, .int i_1), (0, va_rf (some a0)), (1, .int x1), (2, va_rf (some a2)), (3, .int x3), (4, .int x4), (5, .int x5), (6, .int x6), (7, .int x7), (8, .int x8), (9, .int x9), (10, .int x10)]) rfl (fun ls hl => ?_)
            refine lv_goto hx hb dX4_gotData_97 (tgt := 44) (by decide) ?_
            refine W.widen (k := 0) (n := 0) (Nat.le_of_ble_eq_true rfl) (Nat.le_of_ble_eq_true rfl) ?_
            exact ih44 _ _ _ _ _ _ _ _ _ _ _ _ _ h _ _ _ hH (lv_sub hl [1, 2, 3, 4, 5, 6, 7, 8, 9, 10, 11, 0] rfl)
          refine lv_iload hx hb dX4_gotData_44 (lv_at hl 11 rfl) ?_
          refine lv_iconst (v := 3) hx hb dX4_gotData_46 (by decide) ?_
          refine lv_icmp_ge hx hb dX4_gotData_47 (tgt := 100) (by decide) (fun c_1 => ?_) (fun c_1 => ?_)
          · have h := h.1 c_1
            obtain ⟨i_2, ei_2⟩ : ∃ z, z = x10 + 1 := ⟨_, rfl⟩
            have h := h i_2 ei_2
            refine lv_iinc (k := 10) hx hb dX4_gotData_100 hl rfl (v := i_2) (by rw [ei_2]; rfl) (by decide) (lv' := [(10, .int i_2), (0, va_rf (some a0)), (1, .int x1), (2, va_rf (some a2)), (3, .int x3), (4, .int x4), (5, .int x5), (6, .int x6), (7, .int x7), (8, .int x8), (9, .int x9), (11, .int x11)]) rfl (fun ls hl => ?_)
            refine lv_goto hx hb dX4_gotData_103 (tgt := 35) (by decide) ?_
            refine W.widen (k := 0) (n := 0) (Nat.le_of_ble_eq_true rfl) (Nat.le_of_ble_eq_true rfl) ?_
            exact ih35 _ _ _ _ _ _ _ _ _ _ _ _ h _ _ _ hH (lv_sub hl [1, 2, 3, 4, 5, 6, 7, 8, 9, 10, 0] rfl)
          · have h := h.2 c_1
            refine lv_iload hx hb dX4_gotData_50 (lv_at hl 10 rfl) ?_
            refine lv_iload_n hx hb dX4_gotData_52 rfl (lv_at hl 1 rfl) ?_
            refine lv_icmp_eq hx hb dX4_gotData_53 (tgt := 94) (by decide) (fun c_3 => ?_) (fun c_3 => ?_)
            · have h := h.1 c_3
              refine W.widen (k := 0) (n := 0) (Nat.le_of_ble_eq_true rfl) (Nat.le_of_ble_eq_true rfl) ?_
              exact b94 _ _ _ _ _ _ _ _ _ _ _ _ _ h _ _ _ hH (lv_sub hl [0, 1, 2, 3, 4, 5, 6, 7, 8, 9, 10, 11] rfl)
            · have h := h.2 c_3
              refine hx_aload_n C0 dX4_gotData_56 rfl (lv_at hl 0 rfl) ?_
              refine lv_iload_n hx hb dX4_gotData_57 rfl (lv_at hl 1 rfl) ?_
              refine lv_iload hx hb dX4_gotData_58 (lv_at hl 10 rfl) ?_
              refine lv_iload hx hb dX4_gotData_60 (lv_at hl 11 rfl) ?_
              obtain ⟨ho, h⟩ := h
              refine hx_Vi C0 hU hH (As := [.int x1, .int x10, .int x11]) (wk_X4_isThere l h) (cwV 3 hts (lw_V q1216 q1218 qs38 q71 q1219) rfl rfl rfl (by decide +kernel) ⟨Nat.le_of_ble_eq_true rfl, Nat.le_of_ble_eq_true rfl⟩) (hx_recv hU hH (ci := 3) rfl ho) rfl hl.1 rfl (Nat.le_of_ble_eq_true rfl) dX4_gotData_62 ⟨Nat.le_of_ble_eq_true rfl, Nat.le_of_ble_eq_true rfl⟩ (fun i_4 w H locs hH h => ?_)
              refine lv_if_eq hx hb dX4_gotData_65 (tgt := 94) (by decide) (fun c_5 => ?_) (fun c_5 => ?_)
              · have h := h.1 c_5
                refine W.widen (k := 0) (n := 0) (Nat.le_of_ble_eq_true rfl) (Nat.le_of_ble_eq_true rfl) ?_
                exact b94 _ _ _ _ _ _ _ _ _ _ _ _ _ h _ _ _ hH (lv_sub hl [0, 1, 2, 3, 4, 5, 6, 7, 8, 9, 10, 11] rfl)
              · have h := h.2 c_5
                refine hx_aload_n C0 dX4_gotData_68 rfl (lv_at hl 0 rfl) ?_
                refine hx_gR C0 hU hH (ci := 3) rfl in_X4 21 (by decide) q1092 (fun _ h9 => h9) h dX4_gotData_69 (fun r_6 h => ?_)
                refine lv_iload_n hx hb dX4_gotData_72 rfl (lv_at hl 1 rfl) ?_
                obtain ⟨b_7, rfl, h9⟩ := h
                have h := h9
                clear h9
                refine hx_aR C0 hU hH h dX4_gotData_73 (fun r_8 h => ?_)
                refine lv_iload hx hb dX4_gotData_74 (lv_at hl 10 rfl) ?_
                obtain ⟨b_9, rfl, h9⟩ := h
                have h := h9
                clear h9
                refine hx_aR C0 hU hH h dX4_gotData_76 (fun r_10 h => ?_)
                refine lv_iload hx hb dX4_gotData_77 (lv_at hl 11 rfl) ?_
                obtain ⟨b_11, rfl, h9⟩ := h
                have h := h9
                clear h9
                refine hx_aR C0 hU hH h dX4_gotData_79 (fun r_12 h => ?_)
                refine lv_iconst (v := 0) hx hb dX4_gotData_80 (by decide) ?_
                obtain ⟨b_13, rfl, h9⟩ := h
                have h := h9
                clear h9
                refine hx_aI C0 hU hH h dX4_gotData_81 (fun i_14 h => ?_)
                refine lv_iload_n hx hb dX4_gotData_82 rfl (lv_at hl 3 rfl) ?_
                refine lv_icmp_ne hx hb dX4_gotData_83 (tgt := 94) (by decide) (fun c_15 => ?_) (fun c_15 => ?_)
                · have h := h.2 c_15
                  refine W.widen (k := 0) (n := 0) (Nat.le_of_ble_eq_true rfl) (Nat.le_of_ble_eq_true rfl) ?_
                  exact b94 _ _ _ _ _ _ _ _ _ _ _ _ _ h _ _ _ hH (lv_sub hl [0, 1, 2, 3, 4, 5, 6, 7, 8, 9, 10, 11] rfl)
                · have h := h.1 c_15
                  refine lv_iload hx hb dX4_gotData_86 (lv_at hl 10 rfl) ?_
                  refine lv_istore hx hb dX4_gotData_88 hl (by decide) (lv' := [(8, .int x10), (0, va_rf (some a0)), (1, .int x1), (2, va_rf (some a2)), (3, .int x3), (4, .int x4), (5, .int x5), (6, .int x6), (7, .int x7), (9, .int x9), (10, .int x10), (11, .int x11)]) rfl (fun ls hl => ?_)
                  refine lv_iload hx hb dX4_gotData_90 (lv_at hl 11 rfl) ?_
                  refine lv_istore hx hb dX4_gotData_92 hl (by decide) (lv' := [(9, .int x11), (8, .int x10), (0, va_rf (some a0)), (1, .int x1), (2, va_rf (some a2)), (3, .int x3), (4, .int x4), (5, .int x5), (6, .int x6), (7, .int x7), (10, .int x10), (11, .int x11)]) rfl (fun ls hl => ?_)
                  refine W.widen (k := 0) (n := 0) (Nat.le_of_ble_eq_true rfl) (Nat.le_of_ble_eq_true rfl) ?_
                  exact b94 _ _ _ _ _ _ _ _ _ _ _ _ _ h _ _ _ hH (lv_sub hl [2, 3, 4, 5, 6, 7, 8, 9, 1, 0, 10, 11] rfl)
      refine lv_iload hx hb dX4_gotData_35 (lv_at hl 10 rfl) ?_
      refine lv_iconst (v := 3) hx hb dX4_gotData_37 (by decide) ?_
      refine lv_icmp_ge hx hb dX4_gotData_38 (tgt := 106) (by decide) (fun c_1 => ?_) (fun c_1 => ?_)
      · have h := h.1 c_1
        refine lv_iload hx hb dX4_gotData_106 (lv_at hl 8 rfl) ?_
        refine lv_iconst (v := -1) hx hb dX4_gotData_108 (by decide) ?_
        refine lv_icmp_ne hx hb dX4_gotData_109 (tgt := 114) (by decide) (fun c_2 => ?_) (fun c_2 => ?_)
        · have h := h.2 c_2
          refine hx_aload_n C0 dX4_gotData_114 rfl (lv_at hl 0 rfl) ?_
          refine hx_gR C0 hU hH (ci := 3) rfl in_X4 21 (by decide) q1092 (fun _ h9 => h9) h dX4_gotData_115 (fun r_3 h => ?_)
          refine lv_iload_n hx hb dX4_gotData_118 rfl (lv_at hl 1 rfl) ?_
          obtain ⟨b_4, rfl, h9⟩ := h
          have h := h9
          clear h9
          refine hx_aR C0 hU hH h dX4_gotData_119 (fun r_5 h => ?_)
          refine lv_iload hx hb dX4_gotData_120 (lv_at hl 8 rfl) ?_
          obtain ⟨b_6, rfl, h9⟩ := h
          have h := h9
          clear h9
          refine hx_aR C0 hU hH h dX4_gotData_122 (fun r_7 h => ?_)
          refine lv_iload hx hb dX4_gotData_123 (lv_at hl 9 rfl) ?_
          obtain ⟨b_8, rfl, h9⟩ := h
          have h := h9
          clear h9
          refine hx_aR C0 hU hH h dX4_gotData_125 (fun r_9 h => ?_)
          refine hx_astore C0 dX4_gotData_126 hl (by decide) (lv' := [(10, va_rf r_9), (0, va_rf (some a0)), (1, .int x1), (2, va_rf (some a2)), (3, .int x3), (4, .int x4), (5, .int x5), (6, .int x6), (7, .int x7), (8, .int x8), (9, .int x9)]) rfl (fun ls hl => ?_)
          refine hx_aload_n C0 dX4_gotData_128 rfl (lv_at hl 1 rfl) ?_
          refine lv_iload_n hx hb dX4_gotData_129 rfl (lv_at hl 2 rfl) ?_
          refine lv_iload hx hb dX4_gotData_130 (lv_at hl 9 rfl) ?_
          refine lv_iload hx hb dX4_gotData_132 (lv_at hl 10 rfl) ?_
          obtain ⟨ho, h⟩ := h
          refine hx_Vi C0 hU hH (As := [.int x1, .int x8, .int x9]) (wk_X4_age l h) (cwV 3 hts (lw_V q1220 q1222 qs39 q71 q1223) rfl rfl rfl (by decide +kernel) ⟨Nat.le_of_ble_eq_true rfl, Nat.le_of_ble_eq_true rfl⟩) (hx_recv hU hH (ci := 3) rfl ho) rfl hl.1 rfl (Nat.le_of_ble_eq_true rfl) dX4_gotData_134 ⟨Nat.le_of_ble_eq_true rfl, Nat.le_of_ble_eq_true rfl⟩ (fun i_10 w H locs hH h => ?_)
          refine lv_bipush (v := 30) hx hb dX4_gotData_137 (by decide) ?_
          refine lv_icmp_lt hx hb dX4_gotData_139 (tgt := 145) (by decide) (fun c_11 => ?_) (fun c_11 => ?_)
          · have h := h.1 c_11
            refine hx_aload_n C0 dX4_gotData_145 rfl (lv_at hl 3 rfl) ?_
            refine lv_bipush (v := 8) hx hb dX4_gotData_146 (by decide) ?_
            refine hx_aI C0 hU hH h dX4_gotData_148 (fun i_12 h => ?_)
            refine hx_aload C0 dX4_gotData_149 (lv_at hl 0 rfl) ?_
            refine lv_iconst (v := 4) hx hb dX4_gotData_151 (by decide) ?_
            obtain ⟨b_13, rfl, h9⟩ := h
            have h := h9
            clear h9
            refine hx_aI C0 hU hH h dX4_gotData_152 (fun i_14 h => ?_)
            refine lv_bipush (v := 6) hx hb dX4_gotData_153 (by decide) ?_
            refine hx_nI C0 hU hH (Nat.le_of_ble_eq_true rfl) (Nat.le_of_ble_eq_true rfl) (Nat.le_of_ble_eq_true rfl) h dX4_gotData_155 (fun b_15 w H locs hH h => ?_)
            refine lv_dup hx hb dX4_gotData_157 rfl ?_
            refine lv_iconst (v := 0) hx hb dX4_gotData_158 (by decide) ?_
            refine lv_iconst (v := 4) hx hb dX4_gotData_159 (by decide) ?_
            refine hx_sI C0 hU hH h dX4_gotData_160 (fun w H locs hH h => ?_)
            refine lv_dup hx hb dX4_gotData_161 rfl ?_
            refine lv_iconst (v := 1) hx hb dX4_gotData_162 (by decide) ?_
            refine lv_iload_n hx hb dX4_gotData_163 rfl (lv_at hl 4 rfl) ?_
            refine hx_sI C0 hU hH h dX4_gotData_164 (fun w H locs hH h => ?_)
            refine lv_dup hx hb dX4_gotData_165 rfl ?_
            refine lv_iconst (v := 2) hx hb dX4_gotData_166 (by decide) ?_
            refine lv_iload hx hb dX4_gotData_167 (lv_at hl 5 rfl) ?_
            refine hx_sI C0 hU hH h dX4_gotData_169 (fun w H locs hH h => ?_)
            refine lv_dup hx hb dX4_gotData_170 rfl ?_
            refine lv_iconst (v := 3) hx hb dX4_gotData_171 (by decide) ?_
            refine lv_iload hx hb dX4_gotData_172 (lv_at hl 6 rfl) ?_
            refine hx_sI C0 hU hH h dX4_gotData_174 (fun w H locs hH h => ?_)
            refine lv_dup hx hb dX4_gotData_175 rfl ?_
            refine lv_iconst (v := 4) hx hb dX4_gotData_176 (by decide) ?_
            refine lv_iload hx hb dX4_gotData_177 (lv_at hl 7 rfl) ?_
            refine hx_sI C0 hU hH h dX4_gotData_179 (fun w H locs hH h => ?_)
            refine lv_dup hx hb dX4_gotData_180 rfl ?_
            refine lv_iconst (v := 5) hx hb dX4_gotData_181 (by decide) ?_
            refine lv_iload hx hb dX4_gotData_182 (lv_at hl 8 rfl) ?_
            refine hx_sI C0 hU hH h dX4_gotData_184 (fun w H locs hH h => ?_)
            refine hx_Si C0 hU hH (As := [.int i_14, va_rf (some b_15)]) (wk_X4_sealOf l h) (va_cwS 2 hts (lw_S q1228 q1229 q71 q1230) rfl rfl rfl (by decide +kernel) ⟨Nat.le_of_ble_eq_true rfl, Nat.le_of_ble_eq_true rfl⟩) rfl hl.1 rfl (Nat.le_of_ble_eq_true rfl) dX4_gotData_185 ⟨Nat.le_of_ble_eq_true rfl, Nat.le_of_ble_eq_true rfl⟩ (fun i_16 w H locs hH h => ?_)
            refine lv_icmp_eq hx hb dX4_gotData_188 (tgt := 194) (by decide) (fun c_17 => ?_) (fun c_17 => ?_)
            · have h := h.1 c_17
              refine lv_iload hx hb dX4_gotData_194 (lv_at hl 5 rfl) ?_
              refine lv_i2l hx hb dX4_gotData_196 rfl ?_
              refine lv_lconst (v := 0) hx hb dX4_gotData_197 (by decide) ?_
              refine lv_ldc2 (v := 39) hx hb C0.2.2.2.1 (hts _ q1338) dX4_gotData_198 ?_
              refine hx_Si C0 hU hH (As := [.long (x4.toInt64), .long (0 : Int64), .long (39 : Int64)]) (wk_X4_isBetween l h) (va_cwS 3 hts (lw_S q1162 q1163 q71 q1164) rfl rfl rfl (by decide +kernel) ⟨Nat.le_of_ble_eq_true rfl, Nat.le_of_ble_eq_true rfl⟩) rfl hl.1 rfl (Nat.le_of_ble_eq_true rfl) dX4_gotData_201 ⟨Nat.le_of_ble_eq_true rfl, Nat.le_of_ble_eq_true rfl⟩ (fun i_18 w H locs hH h => ?_)
              refine lv_if_eq hx hb dX4_gotData_204 (tgt := 225) (by decide) (fun c_19 => ?_) (fun c_19 => ?_)
              · have h := h.1 c_19
                refine W.widen (k := 1) (n := 6) (Nat.le_of_ble_eq_true rfl) (Nat.le_of_ble_eq_true rfl) ?_
                exact b225 _ _ _ _ _ _ _ _ _ _ _ h _ _ _ hH (lv_sub hl [1, 2, 3, 5, 6, 7, 8, 9, 10, 0] rfl)
              · have h := h.2 c_19
                refine hx_aload_n C0 dX4_gotData_207 rfl (lv_at hl 1 rfl) ?_
                refine hx_gR C0 hU hH (ci := 3) rfl in_X4 22 (by decide) q1093 (fun _ h9 => h9) h dX4_gotData_208 (fun r_20 h => ?_)
                refine lv_iload_n hx hb dX4_gotData_211 rfl (lv_at hl 2 rfl) ?_
                obtain ⟨b_21, rfl, h9⟩ := h
                have h := h9
                clear h9
                refine hx_aR C0 hU hH h dX4_gotData_212 (fun r_22 h => ?_)
                refine lv_iload hx hb dX4_gotData_213 (lv_at hl 9 rfl) ?_
                obtain ⟨b_23, rfl, h9⟩ := h
                have h := h9
                clear h9
                refine hx_aR C0 hU hH h dX4_gotData_215 (fun r_24 h => ?_)
                refine lv_iload hx hb dX4_gotData_216 (lv_at hl 10 rfl) ?_
                obtain ⟨b_25, rfl, h9⟩ := h
                have h := h9
                clear h9
                refine hx_aR C0 hU hH h dX4_gotData_218 (fun r_26 h => ?_)
                refine lv_iload hx hb dX4_gotData_219 (lv_at hl 5 rfl) ?_
                obtain ⟨b_27, rfl, h9⟩ := h
                have h := h9
                clear h9
                refine hx_aZ C0 hU hH h dX4_gotData_221 (fun i_28 h => ?_)
                refine lv_if_ne hx hb dX4_gotData_222 (tgt := 246) (by decide) (fun c_29 => ?_) (fun c_29 => ?_)
                · have h := h.2 c_29
                  refine W.widen (k := 1) (n := 6) (Nat.le_of_ble_eq_true rfl) (Nat.le_of_ble_eq_true rfl) ?_
                  exact b246 _  h _ _ _ hH (lv_sub hl [] rfl)
                · have h := h.1 c_29
                  refine W.widen (k := 1) (n := 6) (Nat.le_of_ble_eq_true rfl) (Nat.le_of_ble_eq_true rfl) ?_
                  exact b225 _ _ _ _ _ _ _ _ _ _ _ h _ _ _ hH (lv_sub hl [1, 2, 3, 5, 6, 7, 8, 9, 10, 0] rfl)
            · have h := h.2 c_17
              refine lv_bipush (v := -2) hx hb dX4_gotData_191 (by decide) ?_
              exact hx_reti C0 hH hr hlocks h (Nat.le_of_ble_eq_true rfl) (Nat.le_of_ble_eq_true rfl) dX4_gotData_193
          · have h := h.2 c_11
            refine lv_bipush (v := -4) hx hb dX4_gotData_142 (by decide) ?_
            exact hx_reti C0 hH hr hlocks h (Nat.le_of_ble_eq_true rfl) (Nat.le_of_ble_eq_true rfl) dX4_gotData_144
        · have h := h.1 c_2
          refine lv_iconst (v := -1) hx hb dX4_gotData_112 (by decide) ?_
          exact hx_reti C0 hH hr hlocks h (Nat.le_of_ble_eq_true rfl) (Nat.le_of_ble_eq_true rfl) dX4_gotData_113
      · have h := h.2 c_1
        refine lv_iconst (v := 0) hx hb dX4_gotData_41 (by decide) ?_
        refine lv_istore hx hb dX4_gotData_42 hl (by decide) (lv' := [(11, .int (0 : Int32)), (0, va_rf (some a0)), (1, .int x1), (2, va_rf (some a2)), (3, .int x3), (4, .int x4), (5, .int x5), (6, .int x6), (7, .int x7), (8, .int x8), (9, .int x9), (10, .int x10)]) rfl (fun ls hl => ?_)
        obtain ⟨n9, h⟩ := h
        refine W.widen (k := 0) (n := 0) (Nat.le_of_ble_eq_true rfl) (Nat.le_of_ble_eq_true rfl) ?_
        exact L44 n9 _ _ _ _ _ _ _ _ _ _ _ _ _ h _ _ _ hH (lv_sub hl [1, 2, 3, 4, 5, 6, 7, 8, 9, 10, 11, 0] rfl)
  refine hx_aload_n C0 dX4_gotData_0 rfl (lv_at hl 2 rfl) ?_
  refine lv_iconst (v := 3) hx hb dX4_gotData_1 (by decide) ?_
  refine hx_aI C0 hU hH h dX4_gotData_2 (fun i_1 h => ?_)
  refine lv_istore_n hx hb dX4_gotData_3 rfl hl (by decide) (lv' := [(3, .int i_1), (0, va_rf (some a0)), (1, .int x1), (2, va_rf (some a2))]) rfl (fun ls hl => ?_)
  refine hx_aload_n C0 dX4_gotData_4 rfl (lv_at hl 3 rfl) ?_
  refine lv_iconst (v := 4) hx hb dX4_gotData_5 (by decide) ?_
  refine hx_aI C0 hU hH h dX4_gotData_6 (fun i_2 h => ?_)
  refine lv_istore hx hb dX4_gotData_7 hl (by decide) (lv' := [(4, .int i_2), (3, .int i_1), (0, va_rf (some a0)), (1, .int x1), (2, va_rf (some a2))]) rfl (fun ls hl => ?_)
  refine hx_aload_n C0 dX4_gotData_9 rfl (lv_at hl 4 rfl) ?_
  refine lv_iconst (v := 5) hx hb dX4_gotData_10 (by decide) ?_
  refine hx_aI C0 hU hH h dX4_gotData_11 (fun i_3 h => ?_)
  refine lv_istore hx hb dX4_gotData_12 hl (by decide) (lv' := [(5, .int i_3), (4, .int i_2), (3, .int i_1), (0, va_rf (some a0)), (1, .int x1), (2, va_rf (some a2))]) rfl (fun ls hl => ?_)
  refine hx_aload_n C0 dX4_gotData_14 rfl (lv_at hl 5 rfl) ?_
  refine lv_bipush (v := 6) hx hb dX4_gotData_15 (by decide) ?_
  refine hx_aI C0 hU hH h dX4_gotData_17 (fun i_4 h => ?_)
  refine lv_istore hx hb dX4_gotData_18 hl (by decide) (lv' := [(6, .int i_4), (5, .int i_3), (4, .int i_2), (3, .int i_1), (0, va_rf (some a0)), (1, .int x1), (2, va_rf (some a2))]) rfl (fun ls hl => ?_)
  refine hx_aload_n C0 dX4_gotData_20 rfl (lv_at hl 6 rfl) ?_
  refine lv_bipush (v := 7) hx hb dX4_gotData_21 (by decide) ?_
  refine hx_aI C0 hU hH h dX4_gotData_23 (fun i_5 h => ?_)
  refine lv_istore hx hb dX4_gotData_24 hl (by decide) (lv' := [(7, .int i_5), (6, .int i_4), (5, .int i_3), (4, .int i_2), (3, .int i_1), (0, va_rf (some a0)), (1, .int x1), (2, va_rf (some a2))]) rfl (fun ls hl => ?_)
  refine lv_iconst (v := -1) hx hb dX4_gotData_26 (by decide) ?_
  refine lv_istore hx hb dX4_gotData_27 hl (by decide) (lv' := [(8, .int (-1 : Int32)), (7, .int i_5), (6, .int i_4), (5, .int i_3), (4, .int i_2), (3, .int i_1), (0, va_rf (some a0)), (1, .int x1), (2, va_rf (some a2))]) rfl (fun ls hl => ?_)
  refine lv_iconst (v := -1) hx hb dX4_gotData_29 (by decide) ?_
  refine lv_istore hx hb dX4_gotData_30 hl (by decide) (lv' := [(9, .int (-1 : Int32)), (8, .int (-1 : Int32)), (7, .int i_5), (6, .int i_4), (5, .int i_3), (4, .int i_2), (3, .int i_1), (0, va_rf (some a0)), (1, .int x1), (2, va_rf (some a2))]) rfl (fun ls hl => ?_)
  refine lv_iconst (v := 0) hx hb dX4_gotData_32 (by decide) ?_
  refine lv_istore hx hb dX4_gotData_33 hl (by decide) (lv' := [(10, .int (0 : Int32)), (9, .int (-1 : Int32)), (8, .int (-1 : Int32)), (7, .int i_5), (6, .int i_4), (5, .int i_3), (4, .int i_2), (3, .int i_1), (0, va_rf (some a0)), (1, .int x1), (2, va_rf (some a2))]) rfl (fun ls hl => ?_)
  obtain ⟨n9, h⟩ := h
  refine W.widen (k := 0) (n := 0) (Nat.le_of_ble_eq_true rfl) (Nat.le_of_ble_eq_true rfl) ?_
  exact L35 n9 _ _ _ _ _ _ _ _ _ _ _ _ h _ _ _ hH (lv_sub hl [8, 9, 10, 7, 6, 5, 4, 3, 2, 1, 0] rfl)
def wp_X4_make (w : Hp) (a0 : Nat) (x1 : Int32) (x2 : Int32) (x3 : Int32) (x4 : Int32) (x5 : Int32) (x6 : Int32) (x7 : Int32) (x8 : Int32) (K : Hp → Prop) : Prop :=
  gR w a0 3 21 fun r_1 => dR r_1 fun b_2 => aR w b_2 x1 fun r_3 => dR r_3 fun b_4 => aR w b_4 x2 fun r_5 => nI_ w (9 : Int32) 9 fun w b_6 => sI w b_6 (0 : Int32) x4 fun w => sI w b_6 (1 : Int32) x5 fun w => gI w a0 3 0 fun i_7 => sI w b_6 (2 : Int32) i_7 fun w => sI w b_6 (3 : Int32) x6 fun w => sI w b_6 (4 : Int32) x7 fun w => sI w b_6 (5 : Int32) (0 : Int32) fun w => sI w b_6 (6 : Int32) x8 fun w => sI w b_6 (7 : Int32) (-1 : Int32) fun w => sI w b_6 (8 : Int32) (0 : Int32) fun w => dR r_5 fun b_8 => sR w b_8 x3 (some b_6) fun w => gR w a0 3 22 fun r_9 => dR r_9 fun b_10 => aR w b_10 x1 fun r_11 => dR r_11 fun b_12 => aR w b_12 x2 fun r_13 => nZ_ w (40 : Int32) 40 fun w b_14 => dR r_13 fun b_15 => sR w b_15 x3 (some b_14) fun w => K w
abbrev rm_X4_make : Room := { frames := 0, cells := 2, slots := 49, locals := 0 }
abbrev ws9_X4_make : List Cond := ws_ yX4_make cX4_make 9 none
abbrev Q9_X4_make (below : List Frame) (args : Array Value) (s : State) (G : hG) (K : Hp → Prop) : State → Prop := MQ below (hx_Qv G K) args s 2 49 (hx_A G)
set_option maxHeartbeats 4000000 in
set_option maxRecDepth 100000 in
theorem wk_X4_make (l : Launch) {G : hG} {w : Hp} {a0 : Nat} {x1 : Int32} {x2 : Int32} {x3 : Int32} {x4 : Int32} {x5 : Int32} {x6 : Int32} {x7 : Int32} {x8 : Int32} {K : Hp → Prop} (h : wp_X4_make w a0 x1 x2 x3 x4 x5 x6 x7 x8 K) : hx_Mv l yX4_make (ws9_X4_make) rm_X4_make G w [.ref a0, .int x1, .int x2, .int x3, .int x4, .int x5, .int x6, .int x7, .int x8] K 2 49 := by
  refine Met.ofW (cc := cX4_make) (maxL := 9) (ret := none) (by decide +kernel) rfl ?_
  intro p e s m args below meth c s₁ B hml hv
  refine hx_in (own := RX4) (av := [.ref a0, .int x1, .int x2, .int x3, .int x4, .int x5, .int x6, .int x7, .int x8]) (vl := [(0, va_rf (some a0)), (1, .int x1), (2, .int x2), (3, .int x3), (4, .int x4), (5, .int x5), (6, .int x6), (7, .int x7), (8, .int x8)]) rfl rfl (Nat.le_of_ble_eq_true rfl) rfl B hml hv ?_
  intro C0 hU hH hr hlocks hin ls hl
  have hx := C0.1
  have hb := C0.2.1
  have hts := C0.2.2.2.2
  refine hx_aload_n C0 dX4_make_0 rfl (lv_at hl 0 rfl) ?_
  refine hx_gR C0 hU hH (ci := 3) rfl in_X4 21 (by decide) q1092 (fun _ h9 => h9) h dX4_make_1 (fun r_1 h => ?_)
  refine lv_iload_n hx hb dX4_make_4 rfl (lv_at hl 1 rfl) ?_
  obtain ⟨b_2, rfl, h9⟩ := h
  have h := h9
  clear h9
  refine hx_aR C0 hU hH h dX4_make_5 (fun r_3 h => ?_)
  refine lv_iload_n hx hb dX4_make_6 rfl (lv_at hl 2 rfl) ?_
  obtain ⟨b_4, rfl, h9⟩ := h
  have h := h9
  clear h9
  refine hx_aR C0 hU hH h dX4_make_7 (fun r_5 h => ?_)
  refine lv_iload_n hx hb dX4_make_8 rfl (lv_at hl 3 rfl) ?_
  refine lv_bipush (v := 9) hx hb dX4_make_9 (by decide) ?_
  refine hx_nI C0 hU hH (Nat.le_of_ble_eq_true rfl) (Nat.le_of_ble_eq_true rfl) (Nat.le_of_ble_eq_true rfl) h dX4_make_11 (fun b_6 w H locs hH h => ?_)
  refine lv_dup hx hb dX4_make_13 rfl ?_
  refine lv_iconst (v := 0) hx hb dX4_make_14 (by decide) ?_
  refine lv_iload hx hb dX4_make_15 (lv_at hl 4 rfl) ?_
  refine hx_sI C0 hU hH h dX4_make_17 (fun w H locs hH h => ?_)
  refine lv_dup hx hb dX4_make_18 rfl ?_
  refine lv_iconst (v := 1) hx hb dX4_make_19 (by decide) ?_
  refine lv_iload hx hb dX4_make_20 (lv_at hl 5 rfl) ?_
  refine hx_sI C0 hU hH h dX4_make_22 (fun w H locs hH h => ?_)
  refine lv_dup hx hb dX4_make_23 rfl ?_
  refine lv_iconst (v := 2) hx hb dX4_make_24 (by decide) ?_
  refine hx_aload_n C0 dX4_make_25 rfl (lv_at hl 0 rfl) ?_
  refine hx_gI C0 hU hH (ci := 3) rfl in_X4 0 (by decide) q1071 (fun _ h9 => h9) h dX4_make_26 (fun i_7 h => ?_)
  refine hx_sI C0 hU hH h dX4_make_29 (fun w H locs hH h => ?_)
  refine lv_dup hx hb dX4_make_30 rfl ?_
  refine lv_iconst (v := 3) hx hb dX4_make_31 (by decide) ?_
  refine lv_iload hx hb dX4_make_32 (lv_at hl 6 rfl) ?_
  refine hx_sI C0 hU hH h dX4_make_34 (fun w H locs hH h => ?_)
  refine lv_dup hx hb dX4_make_35 rfl ?_
  refine lv_iconst (v := 4) hx hb dX4_make_36 (by decide) ?_
  refine lv_iload hx hb dX4_make_37 (lv_at hl 7 rfl) ?_
  refine hx_sI C0 hU hH h dX4_make_39 (fun w H locs hH h => ?_)
  refine lv_dup hx hb dX4_make_40 rfl ?_
  refine lv_iconst (v := 5) hx hb dX4_make_41 (by decide) ?_
  refine lv_iconst (v := 0) hx hb dX4_make_42 (by decide) ?_
  refine hx_sI C0 hU hH h dX4_make_43 (fun w H locs hH h => ?_)
  refine lv_dup hx hb dX4_make_44 rfl ?_
  refine lv_bipush (v := 6) hx hb dX4_make_45 (by decide) ?_
  refine lv_iload hx hb dX4_make_47 (lv_at hl 8 rfl) ?_
  refine hx_sI C0 hU hH h dX4_make_49 (fun w H locs hH h => ?_)
  refine lv_dup hx hb dX4_make_50 rfl ?_
  refine lv_bipush (v := 7) hx hb dX4_make_51 (by decide) ?_
  refine lv_iconst (v := -1) hx hb dX4_make_53 (by decide) ?_
  refine hx_sI C0 hU hH h dX4_make_54 (fun w H locs hH h => ?_)
  refine lv_dup hx hb dX4_make_55 rfl ?_
  refine lv_bipush (v := 8) hx hb dX4_make_56 (by decide) ?_
  refine lv_iconst (v := 0) hx hb dX4_make_58 (by decide) ?_
  refine hx_sI C0 hU hH h dX4_make_59 (fun w H locs hH h => ?_)
  obtain ⟨b_8, rfl, h9⟩ := h
  have h := h9
  clear h9
  refine hx_sR C0 hU hH h dX4_make_60 (fun w H locs hH h => ?_)
  refine hx_aload_n C0 dX4_make_61 rfl (lv_at hl 0 rfl) ?_
  refine hx_gR C0 hU hH (ci := 3) rfl in_X4 22 (by decide) q1093 (fun _ h9 => h9) h dX4_make_62 (fun r_9 h => ?_)
  refine lv_iload_n hx hb dX4_make_65 rfl (lv_at hl 1 rfl) ?_
  obtain ⟨b_10, rfl, h9⟩ := h
  have h := h9
  clear h9
  refine hx_aR C0 hU hH h dX4_make_66 (fun r_11 h => ?_)
  refine lv_iload_n hx hb dX4_make_67 rfl (lv_at hl 2 rfl) ?_
  obtain ⟨b_12, rfl, h9⟩ := h
  have h := h9
  clear h9
  refine hx_aR C0 hU hH h dX4_make_68 (fun r_13 h => ?_)
  refine lv_iload_n hx hb dX4_make_69 rfl (lv_at hl 3 rfl) ?_
  refine lv_bipush (v := 40) hx hb dX4_make_70 (by decide) ?_
  refine hx_nZ C0 hU hH (Nat.le_of_ble_eq_true rfl) (Nat.le_of_ble_eq_true rfl) (Nat.le_of_ble_eq_true rfl) h dX4_make_72 (fun b_14 w H locs hH h => ?_)
  obtain ⟨b_15, rfl, h9⟩ := h
  have h := h9
  clear h9
  refine hx_sR C0 hU hH h dX4_make_74 (fun w H locs hH h => ?_)
  exact hx_retv C0 hH hr hlocks h (Nat.le_of_ble_eq_true rfl) (Nat.le_of_ble_eq_true rfl) dX4_make_75
def wp_X4_gotHello_b189 (K : Hp → Int32 → Prop)  (w : Hp) (a0 : Nat) (x1 : Int32) (a2 : Nat) (x3 : Int32) (x4 : Int32) (x5 : Int32) (x6 : Int32) (x7 : Int32) (x8 : Int32) : Prop :=
  nI_ w (3 : Int32) 3 fun w b_1 => sI w b_1 (0 : Int32) (1 : Int32) fun w => wp_X4_secretOf w x1 fun w i_2 => wp_X4_both w i_2 x4 fun w i_3 => sI w b_1 (1 : Int32) i_3 fun w => wp_X4_secretOf w x1 fun w i_4 => wp_X4_nameOf w x8 fun w i_5 => wp_X4_both w i_4 i_5 fun w i_6 => sI w b_1 (2 : Int32) i_6 fun w => wp_X4_mix w b_1 fun w i_7 => nI_ w (5 : Int32) 5 fun w b_8 => sI w b_8 (0 : Int32) (1 : Int32) fun w => sI w b_8 (1 : Int32) x3 fun w => sI w b_8 (2 : Int32) x4 fun w => sI w b_8 (3 : Int32) x5 fun w => sI w b_8 (4 : Int32) x6 fun w => wp_X4_sealOf w i_7 b_8 fun w i_9 => br (x7 = i_9) (gR w a0 3 11 fun r_11 => dR r_11 fun b_12 => aR w b_12 x1 fun r_13 => dR r_13 fun b_14 => aI w b_14 x8 fun i_15 => br (i_15 < x6) (gR w a0 3 11 fun r_17 => dR r_17 fun b_18 => aR w b_18 x1 fun r_19 => dR r_19 fun b_20 => sI w b_20 x8 x6 fun w => gR w a0 3 10 fun r_21 => dR r_21 fun b_22 => aR w b_22 x1 fun r_23 => aI w a2 (0 : Int32) fun i_24 => dR r_23 fun b_25 => sI w b_25 x8 i_24 fun w => gI w a0 3 1 fun i_26 => pV w a0 3 1 (.int (i_26 + (1 : Int32))) fun w => wp_X4_fresh w i_26 fun w i_27 => nI_ w (4 : Int32) 4 fun w b_28 => sI w b_28 (0 : Int32) (4 : Int32) fun w => sI w b_28 (1 : Int32) i_7 fun w => wp_X4_both w i_27 x4 fun w i_29 => sI w b_28 (2 : Int32) i_29 fun w => wp_X4_nameOf w x8 fun w i_30 => wp_X4_both w i_27 i_30 fun w i_31 => sI w b_28 (3 : Int32) i_31 fun w => wp_X4_mix w b_28 fun w i_32 => gR w a0 3 4 fun r_33 => dR r_33 fun b_34 => aI w b_34 x1 fun i_35 => aI w a2 (0 : Int32) fun i_36 => nI_ w (4 : Int32) 4 fun w b_37 => sI w b_37 (0 : Int32) i_26 fun w => sI w b_37 (1 : Int32) x3 fun w => wp_X4_open w i_27 fun w i_38 => sI w b_37 (2 : Int32) i_38 fun w => nI_ w (4 : Int32) 4 fun w b_39 => sI w b_39 (0 : Int32) (2 : Int32) fun w => sI w b_39 (1 : Int32) i_26 fun w => sI w b_39 (2 : Int32) x3 fun w => wp_X4_open w i_27 fun w i_40 => sI w b_39 (3 : Int32) i_40 fun w => wp_X4_sealOf w i_32 b_39 fun w i_41 => sI w b_37 (3 : Int32) i_41 fun w => isO w a0 3 <| wp_X4_put w a0 i_35 i_36 (2 : Int32) b_37 fun w => nI_ w (3 : Int32) 3 fun w b_42 => sI w b_42 (0 : Int32) (5 : Int32) fun w => sI w b_42 (1 : Int32) i_32 fun w => sI w b_42 (2 : Int32) (1 : Int32) fun w => wp_X4_mix w b_42 fun w i_43 => nI_ w (3 : Int32) 3 fun w b_44 => sI w b_44 (0 : Int32) (5 : Int32) fun w => sI w b_44 (1 : Int32) i_32 fun w => sI w b_44 (2 : Int32) (0 : Int32) fun w => wp_X4_mix w b_44 fun w i_45 => isO w a0 3 <| wp_X4_make w a0 x1 x8 (2 : Int32) i_26 x3 i_43 i_45 (0 : Int32) fun w => K w (3 : Int32)) (K w (-6 : Int32))) (K w (-2 : Int32))
def wp_X4_gotHello (w : Hp) (a0 : Nat) (x1 : Int32) (a2 : Nat) (K : Hp → Int32 → Prop) : Prop :=
  aI w a2 (3 : Int32) fun i_1 => aI w a2 (4 : Int32) fun i_2 => aI w a2 (5 : Int32) fun i_3 => aI w a2 (6 : Int32) fun i_4 => aI w a2 (7 : Int32) fun i_5 => nm (i_3 / (10 : Int32)) fun i_6 => nm (i_3 - i_3 / (10 : Int32) * (10 : Int32)) fun i_7 => br (i_7 = x1) (nI_ w (4 : Int32) 4 fun w b_9 => sI w b_9 (0 : Int32) (6 : Int32) fun w => wp_X4_secretOf w x1 fun w i_10 => sI w b_9 (1 : Int32) i_10 fun w => gI w a0 3 0 fun i_11 => nm (i_11 / (60 : Int32)) fun i_12 => sI w b_9 (2 : Int32) i_12 fun w => aI w a2 (0 : Int32) fun i_13 => sI w b_9 (3 : Int32) i_13 fun w => wp_X4_mix w b_9 fun w i_14 => gR w a0 3 8 fun r_15 => dR r_15 fun b_16 => aZ w b_16 x1 fun i_17 => br (i_17 = 0) (wp_X4_gotHello_b189 K w a0 x1 a2 i_1 i_2 i_3 i_4 i_5 i_6) (aI w a2 (8 : Int32) fun i_19 => nI_ w (3 : Int32) 3 fun w b_20 => sI w b_20 (0 : Int32) (2 : Int32) fun w => sI w b_20 (1 : Int32) i_14 fun w => sI w b_20 (2 : Int32) i_5 fun w => wp_X4_mix w b_20 fun w i_21 => br (i_19 = i_21) (wp_X4_gotHello_b189 K w a0 x1 a2 i_1 i_2 i_3 i_4 i_5 i_6) (gR w a0 3 4 fun r_23 => dR r_23 fun b_24 => aI w b_24 x1 fun i_25 => aI w a2 (0 : Int32) fun i_26 => nI_ w (3 : Int32) 3 fun w b_27 => sI w b_27 (0 : Int32) i_1 fun w => sI w b_27 (1 : Int32) i_14 fun w => nI_ w (3 : Int32) 3 fun w b_28 => sI w b_28 (0 : Int32) (3 : Int32) fun w => wp_X4_nameOf w x1 fun w i_29 => sI w b_28 (1 : Int32) i_29 fun w => sI w b_28 (2 : Int32) i_5 fun w => wp_X4_mix w b_28 fun w i_30 => nI_ w (3 : Int32) 3 fun w b_31 => sI w b_31 (0 : Int32) (3 : Int32) fun w => sI w b_31 (1 : Int32) i_1 fun w => sI w b_31 (2 : Int32) i_14 fun w => wp_X4_sealOf w i_30 b_31 fun w i_32 => sI w b_27 (2 : Int32) i_32 fun w => isO w a0 3 <| wp_X4_put w a0 i_25 i_26 (3 : Int32) b_27 fun w => K w (-7 : Int32)))) (K w (-1 : Int32))
abbrev rm_X4_gotHello : Room := { frames := 3, cells := 12, slots := 98, locals := 82 }
abbrev ws9_X4_gotHello : List Cond := ws_ yX4_gotHello cX4_gotHello 14 (Option.some Jvm.ClassFile.FieldType.int)
abbrev Q9_X4_gotHello (below : List Frame) (args : Array Value) (s : State) (G : hG) (K : Hp → Int32 → Prop) : State → Prop := MQ below (hx_Qi G K) args s 12 98 (hx_A G)
set_option maxHeartbeats 4000000 in
set_option maxRecDepth 100000 in
theorem wk_X4_gotHello (l : Launch) {G : hG} {w : Hp} {a0 : Nat} {x1 : Int32} {a2 : Nat} {K : Hp → Int32 → Prop} (h : wp_X4_gotHello w a0 x1 a2 K) : hx_Mi l yX4_gotHello (ws9_X4_gotHello) rm_X4_gotHello G w [.ref a0, .int x1, .ref a2] K 12 98 := by
  refine Met.ofW (cc := cX4_gotHello) (maxL := 14) (ret := (Option.some Jvm.ClassFile.FieldType.int)) (by decide +kernel) rfl ?_
  intro p e s m args below meth c s₁ B hml hv
  refine hx_in (own := RX4) (av := [.ref a0, .int x1, .ref a2]) (vl := [(0, va_rf (some a0)), (1, .int x1), (2, va_rf (some a2))]) rfl rfl (Nat.le_of_ble_eq_true rfl) rfl B hml hv ?_
  intro C0 hU hH hr hlocks hin ls hl
  have hx := C0.1
  have hb := C0.2.1
  have hts := C0.2.2.2.2
  have b189 : ∀ (w : Hp) (a0 : Nat) (x1 : Int32) (a2 : Nat) (x3 : Int32) (x4 : Int32) (x5 : Int32) (x6 : Int32) (x7 : Int32) (x8 : Int32), wp_X4_gotHello_b189 K  w a0 x1 a2 x3 x4 x5 x6 x7 x8 → ∀ (H : Heap) (locs : List Loc) (ls : Array Slot), hx_H G w s H locs → lv_has ls 14 [(0, va_rf (some a0)), (1, .int x1), (2, va_rf (some a2)), (3, .int x3), (4, .int x4), (5, .int x5), (6, .int x6), (7, .int x7), (8, .int x8)] → W p l e (headSpec (ws9_X4_gotHello) rm_X4_gotHello).room s m args below meth c H locs (2) (7) (Q9_X4_gotHello below args s G K) (F0 m 189 ls []) := by
    intro w a0 x1 a2 x3 x4 x5 x6 x7 x8 h H locs ls hH hl
    refine lv_iconst (v := 3) hx hb dX4_gotHello_189 (by decide) ?_
    refine hx_nI C0 hU hH (Nat.le_of_ble_eq_true rfl) (Nat.le_of_ble_eq_true rfl) (Nat.le_of_ble_eq_true rfl) h dX4_gotHello_190 (fun b_1 w H locs hH h => ?_)
    refine lv_dup hx hb dX4_gotHello_192 rfl ?_
    refine lv_iconst (v := 0) hx hb dX4_gotHello_193 (by decide) ?_
    refine lv_iconst (v := 1) hx hb dX4_gotHello_194 (by decide) ?_
    refine hx_sI C0 hU hH h dX4_gotHello_195 (fun w H locs hH h => ?_)
    refine lv_dup hx hb dX4_gotHello_196 rfl ?_
    refine lv_iconst (v := 1) hx hb dX4_gotHello_197 (by decide) ?_
    refine lv_iload_n hx hb dX4_gotHello_198 rfl (lv_at hl 1 rfl) ?_
    refine hx_Si C0 hU hH (As := [.int x1]) (wk_X4_secretOf l h) (va_cwS 1 hts (lw_S q1260 q1261 q71 q1262) rfl rfl rfl (by decide +kernel) ⟨Nat.le_of_ble_eq_true rfl, Nat.le_of_ble_eq_true rfl⟩) rfl hl.1 rfl (Nat.le_of_ble_eq_true rfl) dX4_gotHello_199 ⟨Nat.le_of_ble_eq_true rfl, Nat.le_of_ble_eq_true rfl⟩ (fun i_2 w H locs hH h => ?_)
    refine lv_iload hx hb dX4_gotHello_202 (lv_at hl 4 rfl) ?_
    refine hx_Si C0 hU hH (As := [.int i_2, .int x4]) (wk_X4_both l h) (va_cwS 2 hts (lw_S q1270 q1271 q71 q1272) rfl rfl rfl (by decide +kernel) ⟨Nat.le_of_ble_eq_true rfl, Nat.le_of_ble_eq_true rfl⟩) rfl hl.1 rfl (Nat.le_of_ble_eq_true rfl) dX4_gotHello_204 ⟨Nat.le_of_ble_eq_true rfl, Nat.le_of_ble_eq_true rfl⟩ (fun i_3 w H locs hH h => ?_)
    refine hx_sI C0 hU hH h dX4_gotHello_207 (fun w H locs hH h => ?_)
    refine lv_dup hx hb dX4_gotHello_208 rfl ?_
    refine lv_iconst (v := 2) hx hb dX4_gotHello_209 (by decide) ?_
    refine lv_iload_n hx hb dX4_gotHello_210 rfl (lv_at hl 1 rfl) ?_
    refine hx_Si C0 hU hH (As := [.int x1]) (wk_X4_secretOf l h) (va_cwS 1 hts (lw_S q1260 q1261 q71 q1262) rfl rfl rfl (by decide +kernel) ⟨Nat.le_of_ble_eq_true rfl, Nat.le_of_ble_eq_true rfl⟩) rfl hl.1 rfl (Nat.le_of_ble_eq_true rfl) dX4_gotHello_211 ⟨Nat.le_of_ble_eq_true rfl, Nat.le_of_ble_eq_true rfl⟩ (fun i_4 w H locs hH h => ?_)
    refine lv_iload hx hb dX4_gotHello_214 (lv_at hl 8 rfl) ?_
    refine hx_Si C0 hU hH (As := [.int x8]) (wk_X4_nameOf l h) (va_cwS 1 hts (lw_S q1257 q1258 q71 q1259) rfl rfl rfl (by decide +kernel) ⟨Nat.le_of_ble_eq_true rfl, Nat.le_of_ble_eq_true rfl⟩) rfl hl.1 rfl (Nat.le_of_ble_eq_true rfl) dX4_gotHello_216 ⟨Nat.le_of_ble_eq_true rfl, Nat.le_of_ble_eq_true rfl⟩ (fun i_5 w H locs hH h => ?_)
    refine hx_Si C0 hU hH (As := [.int i_4, .int i_5]) (wk_X4_both l h) (va_cwS 2 hts (lw_S q1270 q1271 q71 q1272) rfl rfl rfl (by decide +kernel) ⟨Nat.le_of_ble_eq_true rfl, Nat.le_of_ble_eq_true rfl⟩) rfl hl.1 rfl (Nat.le_of_ble_eq_true rfl) dX4_gotHello_219 ⟨Nat.le_of_ble_eq_true rfl, Nat.le_of_ble_eq_true rfl⟩ (fun i_6 w H locs hH h => ?_)
    refine hx_sI C0 hU hH h dX4_gotHello_222 (fun w H locs hH h => ?_)
    refine hx_Si C0 hU hH (As := [va_rf (some b_1)]) (wk_X4_mix l h) (va_cwS 1 hts (lw_S q1273 q1274 q71 q1275) rfl rfl rfl (by decide +kernel) ⟨Nat.le_of_ble_eq_true rfl, Nat.le_of_ble_eq_true rfl⟩) rfl hl.1 rfl (Nat.le_of_ble_eq_true rfl) dX4_gotHello_223 ⟨Nat.le_of_ble_eq_true rfl, Nat.le_of_ble_eq_true rfl⟩ (fun i_7 w H locs hH h => ?_)
    refine lv_istore hx hb dX4_gotHello_226 hl (by decide) (lv' := [(10, .int i_7), (0, va_rf (some a0)), (1, .int x1), (2, va_rf (some a2)), (3, .int x3), (4, .int x4), (5, .int x5), (6, .int x6), (7, .int x7), (8, .int x8)]) rfl (fun ls hl => ?_)
    refine lv_iload hx hb dX4_gotHello_228 (lv_at hl 8 rfl) ?_
    refine lv_iload hx hb dX4_gotHello_230 (lv_at hl 0 rfl) ?_
    refine lv_iconst (v := 5) hx hb dX4_gotHello_232 (by decide) ?_
    refine hx_nI C0 hU hH (Nat.le_of_ble_eq_true rfl) (Nat.le_of_ble_eq_true rfl) (Nat.le_of_ble_eq_true rfl) h dX4_gotHello_233 (fun b_8 w H locs hH h => ?_)
    refine lv_dup hx hb dX4_gotHello_235 rfl ?_
    refine lv_iconst (v := 0) hx hb dX4_gotHello_236 (by decide) ?_
    refine lv_iconst (v := 1) hx hb dX4_gotHello_237 (by decide) ?_
    refine hx_sI C0 hU hH h dX4_gotHello_238 (fun w H locs hH h => ?_)
    refine lv_dup hx hb dX4_gotHello_239 rfl ?_
    refine lv_iconst (v := 1) hx hb dX4_gotHello_240 (by decide) ?_
    refine lv_iload_n hx hb dX4_gotHello_241 rfl (lv_at hl 4 rfl) ?_
    refine hx_sI C0 hU hH h dX4_gotHello_242 (fun w H locs hH h => ?_)
    refine lv_dup hx hb dX4_gotHello_243 rfl ?_
    refine lv_iconst (v := 2) hx hb dX4_gotHello_244 (by decide) ?_
    refine lv_iload hx hb dX4_gotHello_245 (lv_at hl 5 rfl) ?_
    refine hx_sI C0 hU hH h dX4_gotHello_247 (fun w H locs hH h => ?_)
    refine lv_dup hx hb dX4_gotHello_248 rfl ?_
    refine lv_iconst (v := 3) hx hb dX4_gotHello_249 (by decide) ?_
    refine lv_iload hx hb dX4_gotHello_250 (lv_at hl 6 rfl) ?_
    refine hx_sI C0 hU hH h dX4_gotHello_252 (fun w H locs hH h => ?_)
    refine lv_dup hx hb dX4_gotHello_253 rfl ?_
    refine lv_iconst (v := 4) hx hb dX4_gotHello_254 (by decide) ?_
    refine lv_iload hx hb dX4_gotHello_255 (lv_at hl 7 rfl) ?_
    refine hx_sI C0 hU hH h dX4_gotHello_257 (fun w H locs hH h => ?_)
    refine hx_Si C0 hU hH (As := [.int i_7, va_rf (some b_8)]) (wk_X4_sealOf l h) (va_cwS 2 hts (lw_S q1228 q1229 q71 q1230) rfl rfl rfl (by decide +kernel) ⟨Nat.le_of_ble_eq_true rfl, Nat.le_of_ble_eq_true rfl⟩) rfl hl.1 rfl (Nat.le_of_ble_eq_true rfl) dX4_gotHello_258 ⟨Nat.le_of_ble_eq_true rfl, Nat.le_of_ble_eq_true rfl⟩ (fun i_9 w H locs hH h => ?_)
    refine lv_icmp_eq hx hb dX4_gotHello_261 (tgt := 267) (by decide) (fun c_10 => ?_) (fun c_10 => ?_)
    · have h := h.1 c_10
      refine lv_iload hx hb dX4_gotHello_267 (lv_at hl 7 rfl) ?_
      refine hx_aload_n C0 dX4_gotHello_269 rfl (lv_at hl 1 rfl) ?_
      refine hx_gR C0 hU hH (ci := 3) rfl in_X4 11 (by decide) q1082 (fun _ h9 => h9) h dX4_gotHello_270 (fun r_11 h => ?_)
      refine lv_iload_n hx hb dX4_gotHello_273 rfl (lv_at hl 2 rfl) ?_
      obtain ⟨b_12, rfl, h9⟩ := h
      have h := h9
      clear h9
      refine hx_aR C0 hU hH h dX4_gotHello_274 (fun r_13 h => ?_)
      refine lv_iload hx hb dX4_gotHello_275 (lv_at hl 9 rfl) ?_
      obtain ⟨b_14, rfl, h9⟩ := h
      have h := h9
      clear h9
      refine hx_aI C0 hU hH h dX4_gotHello_277 (fun i_15 h => ?_)
      refine lv_icmp_gt hx hb dX4_gotHello_278 (tgt := 284) (by decide) (fun c_16 => ?_) (fun c_16 => ?_)
      · have h := h.1 c_16
        refine hx_aload_n C0 dX4_gotHello_284 rfl (lv_at hl 1 rfl) ?_
        refine hx_gR C0 hU hH (ci := 3) rfl in_X4 11 (by decide) q1082 (fun _ h9 => h9) h dX4_gotHello_285 (fun r_17 h => ?_)
        refine lv_iload_n hx hb dX4_gotHello_288 rfl (lv_at hl 2 rfl) ?_
        obtain ⟨b_18, rfl, h9⟩ := h
        have h := h9
        clear h9
        refine hx_aR C0 hU hH h dX4_gotHello_289 (fun r_19 h => ?_)
        refine lv_iload hx hb dX4_gotHello_290 (lv_at hl 9 rfl) ?_
        refine lv_iload hx hb dX4_gotHello_292 (lv_at hl 7 rfl) ?_
        obtain ⟨b_20, rfl, h9⟩ := h
        have h := h9
        clear h9
        refine hx_sI C0 hU hH h dX4_gotHello_294 (fun w H locs hH h => ?_)
        refine hx_aload_n C0 dX4_gotHello_295 rfl (lv_at hl 1 rfl) ?_
        refine hx_gR C0 hU hH (ci := 3) rfl in_X4 10 (by decide) q1081 (fun _ h9 => h9) h dX4_gotHello_296 (fun r_21 h => ?_)
        refine lv_iload_n hx hb dX4_gotHello_299 rfl (lv_at hl 2 rfl) ?_
        obtain ⟨b_22, rfl, h9⟩ := h
        have h := h9
        clear h9
        refine hx_aR C0 hU hH h dX4_gotHello_300 (fun r_23 h => ?_)
        refine lv_iload hx hb dX4_gotHello_301 (lv_at hl 9 rfl) ?_
        refine hx_aload_n C0 dX4_gotHello_303 rfl (lv_at hl 3 rfl) ?_
        refine lv_iconst (v := 0) hx hb dX4_gotHello_304 (by decide) ?_
        refine hx_aI C0 hU hH h dX4_gotHello_305 (fun i_24 h => ?_)
        obtain ⟨b_25, rfl, h9⟩ := h
        have h := h9
        clear h9
        refine hx_sI C0 hU hH h dX4_gotHello_306 (fun w H locs hH h => ?_)
        refine hx_aload_n C0 dX4_gotHello_307 rfl (lv_at hl 1 rfl) ?_
        refine lv_dup hx hb dX4_gotHello_308 rfl ?_
        refine hx_gI C0 hU hH (ci := 3) rfl in_X4 1 (by decide) q1072 (fun _ h9 => h9) h dX4_gotHello_309 (fun i_26 h => ?_)
        refine lv_dup_x1 hx hb dX4_gotHello_312 rfl rfl ?_
        refine lv_iconst (v := 1) hx hb dX4_gotHello_313 (by decide) ?_
        refine lv_iadd hx hb dX4_gotHello_314 ?_
        refine hx_pV C0 hU hH (ci := 3) rfl in_X4 tyX4 tyX4_ok nmX4 1 (by decide) q1072 (fun _ h9 => h9) (Or.inl rfl) rfl rfl h dX4_gotHello_315 (fun w H locs hH h => ?_)
        refine lv_istore hx hb dX4_gotHello_318 hl (by decide) (lv' := [(11, .int i_26), (10, .int i_7), (0, va_rf (some a0)), (1, .int x1), (2, va_rf (some a2)), (3, .int x3), (4, .int x4), (5, .int x5), (6, .int x6), (7, .int x7), (8, .int x8)]) rfl (fun ls hl => ?_)
        refine lv_iload hx hb dX4_gotHello_320 (lv_at hl 0 rfl) ?_
        refine hx_Si C0 hU hH (As := [.int i_26]) (wk_X4_fresh l h) (va_cwS 1 hts (lw_S q1247 q1248 q71 q1249) rfl rfl rfl (by decide +kernel) ⟨Nat.le_of_ble_eq_true rfl, Nat.le_of_ble_eq_true rfl⟩) rfl hl.1 rfl (Nat.le_of_ble_eq_true rfl) dX4_gotHello_322 ⟨Nat.le_of_ble_eq_true rfl, Nat.le_of_ble_eq_true rfl⟩ (fun i_27 w H locs hH h => ?_)
        refine lv_istore hx hb dX4_gotHello_325 hl (by decide) (lv' := [(12, .int i_27), (11, .int i_26), (10, .int i_7), (0, va_rf (some a0)), (1, .int x1), (2, va_rf (some a2)), (3, .int x3), (4, .int x4), (5, .int x5), (6, .int x6), (7, .int x7), (8, .int x8)]) rfl (fun ls hl => ?_)
        refine lv_iconst (v := 4) hx hb dX4_gotHello_327 (by decide) ?_
        refine hx_nI C0 hU hH (Nat.le_of_ble_eq_true rfl) (Nat.le_of_ble_eq_true rfl) (Nat.le_of_ble_eq_true rfl) h dX4_gotHello_328 (fun b_28 w H locs hH h => ?_)
        refine lv_dup hx hb dX4_gotHello_330 rfl ?_
        refine lv_iconst (v := 0) hx hb dX4_gotHello_331 (by decide) ?_
        refine lv_iconst (v := 4) hx hb dX4_gotHello_332 (by decide) ?_
        refine hx_sI C0 hU hH h dX4_gotHello_333 (fun w H locs hH h => ?_)
        refine lv_dup hx hb dX4_gotHello_334 rfl ?_
        refine lv_iconst (v := 1) hx hb dX4_gotHello_335 (by decide) ?_
        refine lv_iload hx hb dX4_gotHello_336 (lv_at hl 2 rfl) ?_
        refine hx_sI C0 hU hH h dX4_gotHello_338 (fun w H locs hH h => ?_)
        refine lv_dup hx hb dX4_gotHello_339 rfl ?_
        refine lv_iconst (v := 2) hx hb dX4_gotHello_340 (by decide) ?_
        refine lv_iload hx hb dX4_gotHello_341 (lv_at hl 0 rfl) ?_
        refine lv_iload hx hb dX4_gotHello_343 (lv_at hl 7 rfl) ?_
        refine hx_Si C0 hU hH (As := [.int i_27, .int x4]) (wk_X4_both l h) (va_cwS 2 hts (lw_S q1270 q1271 q71 q1272) rfl rfl rfl (by decide +kernel) ⟨Nat.le_of_ble_eq_true rfl, Nat.le_of_ble_eq_true rfl⟩) rfl hl.1 rfl (Nat.le_of_ble_eq_true rfl) dX4_gotHello_345 ⟨Nat.le_of_ble_eq_true rfl, Nat.le_of_ble_eq_true rfl⟩ (fun i_29 w H locs hH h => ?_)
        refine hx_sI C0 hU hH h dX4_gotHello_348 (fun w H locs hH h => ?_)
        refine lv_dup hx hb dX4_gotHello_349 rfl ?_
        refine lv_iconst (v := 3) hx hb dX4_gotHello_350 (by decide) ?_
        refine lv_iload hx hb dX4_gotHello_351 (lv_at hl 0 rfl) ?_
        refine lv_iload hx hb dX4_gotHello_353 (lv_at hl 11 rfl) ?_
        refine hx_Si C0 hU hH (As := [.int x8]) (wk_X4_nameOf l h) (va_cwS 1 hts (lw_S q1257 q1258 q71 q1259) rfl rfl rfl (by decide +kernel) ⟨Nat.le_of_ble_eq_true rfl, Nat.le_of_ble_eq_true rfl⟩) rfl hl.1 rfl (Nat.le_of_ble_eq_true rfl) dX4_gotHello_355 ⟨Nat.le_of_ble_eq_true rfl, Nat.le_of_ble_eq_true rfl⟩ (fun i_30 w H locs hH h => ?_)
        refine hx_Si C0 hU hH (As := [.int i_27, .int i_30]) (wk_X4_both l h) (va_cwS 2 hts (lw_S q1270 q1271 q71 q1272) rfl rfl rfl (by decide +kernel) ⟨Nat.le_of_ble_eq_true rfl, Nat.le_of_ble_eq_true rfl⟩) rfl hl.1 rfl (Nat.le_of_ble_eq_true rfl) dX4_gotHello_358 ⟨Nat.le_of_ble_eq_true rfl, Nat.le_of_ble_eq_true rfl⟩ (fun i_31 w H locs hH h => ?_)
        refine hx_sI C0 hU hH h dX4_gotHello_361 (fun w H locs hH h => ?_)
        refine hx_Si C0 hU hH (As := [va_rf (some b_28)]) (wk_X4_mix l h) (va_cwS 1 hts (lw_S q1273 q1274 q71 q1275) rfl rfl rfl (by decide +kernel) ⟨Nat.le_of_ble_eq_true rfl, Nat.le_of_ble_eq_true rfl⟩) rfl hl.1 rfl (Nat.le_of_ble_eq_true rfl) dX4_gotHello_362 ⟨Nat.le_of_ble_eq_true rfl, Nat.le_of_ble_eq_true rfl⟩ (fun i_32 w H locs hH h => ?_)
        refine lv_istore hx hb dX4_gotHello_365 hl (by decide) (lv' := [(13, .int i_32), (12, .int i_27), (11, .int i_26), (10, .int i_7), (0, va_rf (some a0)), (1, .int x1), (2, va_rf (some a2)), (3, .int x3), (4, .int x4), (5, .int x5), (6, .int x6), (7, .int x7), (8, .int x8)]) rfl (fun ls hl => ?_)
        refine hx_aload_n C0 dX4_gotHello_367 rfl (lv_at hl 4 rfl) ?_
        refine hx_aload_n C0 dX4_gotHello_368 rfl (lv_at hl 4 rfl) ?_
        refine hx_gR C0 hU hH (ci := 3) rfl in_X4 4 (by decide) q1075 (fun _ h9 => h9) h dX4_gotHello_369 (fun r_33 h => ?_)
        refine lv_iload_n hx hb dX4_gotHello_372 rfl (lv_at hl 5 rfl) ?_
        obtain ⟨b_34, rfl, h9⟩ := h
        have h := h9
        clear h9
        refine hx_aI C0 hU hH h dX4_gotHello_373 (fun i_35 h => ?_)
        refine hx_aload_n C0 dX4_gotHello_374 rfl (lv_at hl 6 rfl) ?_
        refine lv_iconst (v := 0) hx hb dX4_gotHello_375 (by decide) ?_
        refine hx_aI C0 hU hH h dX4_gotHello_376 (fun i_36 h => ?_)
        refine lv_iconst (v := 2) hx hb dX4_gotHello_377 (by decide) ?_
        refine lv_iconst (v := 4) hx hb dX4_gotHello_378 (by decide) ?_
        refine hx_nI C0 hU hH (Nat.le_of_ble_eq_true rfl) (Nat.le_of_ble_eq_true rfl) (Nat.le_of_ble_eq_true rfl) h dX4_gotHello_379 (fun b_37 w H locs hH h => ?_)
        refine lv_dup hx hb dX4_gotHello_381 rfl ?_
        refine lv_iconst (v := 0) hx hb dX4_gotHello_382 (by decide) ?_
        refine lv_iload hx hb dX4_gotHello_383 (lv_at hl 2 rfl) ?_
        refine hx_sI C0 hU hH h dX4_gotHello_385 (fun w H locs hH h => ?_)
        refine lv_dup hx hb dX4_gotHello_386 rfl ?_
        refine lv_iconst (v := 1) hx hb dX4_gotHello_387 (by decide) ?_
        refine lv_iload_n hx hb dX4_gotHello_388 rfl (lv_at hl 7 rfl) ?_
        refine hx_sI C0 hU hH h dX4_gotHello_389 (fun w H locs hH h => ?_)
        refine lv_dup hx hb dX4_gotHello_390 rfl ?_
        refine lv_iconst (v := 2) hx hb dX4_gotHello_391 (by decide) ?_
        refine lv_iload hx hb dX4_gotHello_392 (lv_at hl 1 rfl) ?_
        refine hx_Si C0 hU hH (As := [.int i_27]) (wk_X4_open l h) (va_cwS 1 hts (lw_S q1263 q1264 q71 q1265) rfl rfl rfl (by decide +kernel) ⟨Nat.le_of_ble_eq_true rfl, Nat.le_of_ble_eq_true rfl⟩) rfl hl.1 rfl (Nat.le_of_ble_eq_true rfl) dX4_gotHello_394 ⟨Nat.le_of_ble_eq_true rfl, Nat.le_of_ble_eq_true rfl⟩ (fun i_38 w H locs hH h => ?_)
        refine hx_sI C0 hU hH h dX4_gotHello_397 (fun w H locs hH h => ?_)
        refine lv_dup hx hb dX4_gotHello_398 rfl ?_
        refine lv_iconst (v := 3) hx hb dX4_gotHello_399 (by decide) ?_
        refine lv_iload hx hb dX4_gotHello_400 (lv_at hl 0 rfl) ?_
        refine lv_iconst (v := 4) hx hb dX4_gotHello_402 (by decide) ?_
        refine hx_nI C0 hU hH (Nat.le_of_ble_eq_true rfl) (Nat.le_of_ble_eq_true rfl) (Nat.le_of_ble_eq_true rfl) h dX4_gotHello_403 (fun b_39 w H locs hH h => ?_)
        refine lv_dup hx hb dX4_gotHello_405 rfl ?_
        refine lv_iconst (v := 0) hx hb dX4_gotHello_406 (by decide) ?_
        refine lv_iconst (v := 2) hx hb dX4_gotHello_407 (by decide) ?_
        refine hx_sI C0 hU hH h dX4_gotHello_408 (fun w H locs hH h => ?_)
        refine lv_dup hx hb dX4_gotHello_409 rfl ?_
        refine lv_iconst (v := 1) hx hb dX4_gotHello_410 (by decide) ?_
        refine lv_iload hx hb dX4_gotHello_411 (lv_at hl 2 rfl) ?_
        refine hx_sI C0 hU hH h dX4_gotHello_413 (fun w H locs hH h => ?_)
        refine lv_dup hx hb dX4_gotHello_414 rfl ?_
        refine lv_iconst (v := 2) hx hb dX4_gotHello_415 (by decide) ?_
        refine lv_iload_n hx hb dX4_gotHello_416 rfl (lv_at hl 7 rfl) ?_
        refine hx_sI C0 hU hH h dX4_gotHello_417 (fun w H locs hH h => ?_)
        refine lv_dup hx hb dX4_gotHello_418 rfl ?_
        refine lv_iconst (v := 3) hx hb dX4_gotHello_419 (by decide) ?_
        refine lv_iload hx hb dX4_gotHello_420 (lv_at hl 1 rfl) ?_
        refine hx_SiW C0 hU hH (As := [.int i_27]) (wk_X4_open l h) (va_cwS 1 hts (lw_S q1263 q1264 q71 q1265) rfl rfl rfl (by decide +kernel) ⟨Nat.le_of_ble_eq_true rfl, Nat.le_of_ble_eq_true rfl⟩) (Nat.le_of_ble_eq_true rfl) rfl hl.1 rfl (Nat.le_of_ble_eq_true rfl) dX4_gotHello_422 ⟨Nat.le_of_ble_eq_true rfl, Nat.le_of_ble_eq_true rfl⟩ (fun i_40 w H locs hH h => ?_)
        refine hx_sI C0 hU hH h dX4_gotHello_425 (fun w H locs hH h => ?_)
        refine hx_Si C0 hU hH (As := [.int i_32, va_rf (some b_39)]) (wk_X4_sealOf l h) (va_cwS 2 hts (lw_S q1228 q1229 q71 q1230) rfl rfl rfl (by decide +kernel) ⟨Nat.le_of_ble_eq_true rfl, Nat.le_of_ble_eq_true rfl⟩) rfl hl.1 rfl (Nat.le_of_ble_eq_true rfl) dX4_gotHello_426 ⟨Nat.le_of_ble_eq_true rfl, Nat.le_of_ble_eq_true rfl⟩ (fun i_41 w H locs hH h => ?_)
        refine hx_sI C0 hU hH h dX4_gotHello_429 (fun w H locs hH h => ?_)
        obtain ⟨ho, h⟩ := h
        refine hx_Vv C0 hU hH (As := [.int i_35, .int i_36, .int (2 : Int32), va_rf (some b_37)]) (wk_X4_put l h) (cwV 4 hts (lw_V q1235 q1237 qs41 q71 q1238) rfl rfl rfl (by decide +kernel) ⟨Nat.le_of_ble_eq_true rfl, Nat.le_of_ble_eq_true rfl⟩) (hx_recv hU hH (ci := 3) rfl ho) rfl hl.1 rfl (Nat.le_of_ble_eq_true rfl) dX4_gotHello_430 ⟨Nat.le_of_ble_eq_true rfl, Nat.le_of_ble_eq_true rfl⟩ (fun w H locs hH h => ?_)
        refine hx_aload_n C0 dX4_gotHello_433 rfl (lv_at hl 4 rfl) ?_
        refine lv_iload_n hx hb dX4_gotHello_434 rfl (lv_at hl 5 rfl) ?_
        refine lv_iload hx hb dX4_gotHello_435 (lv_at hl 12 rfl) ?_
        refine lv_iconst (v := 2) hx hb dX4_gotHello_437 (by decide) ?_
        refine lv_iload hx hb dX4_gotHello_438 (lv_at hl 2 rfl) ?_
        refine lv_iload_n hx hb dX4_gotHello_440 rfl (lv_at hl 7 rfl) ?_
        refine lv_iconst (v := 3) hx hb dX4_gotHello_441 (by decide) ?_
        refine hx_nI C0 hU hH (Nat.le_of_ble_eq_true rfl) (Nat.le_of_ble_eq_true rfl) (Nat.le_of_ble_eq_true rfl) h dX4_gotHello_442 (fun b_42 w H locs hH h => ?_)
        refine lv_dup hx hb dX4_gotHello_444 rfl ?_
        refine lv_iconst (v := 0) hx hb dX4_gotHello_445 (by decide) ?_
        refine lv_iconst (v := 5) hx hb dX4_gotHello_446 (by decide) ?_
        refine hx_sI C0 hU hH h dX4_gotHello_447 (fun w H locs hH h => ?_)
        refine lv_dup hx hb dX4_gotHello_448 rfl ?_
        refine lv_iconst (v := 1) hx hb dX4_gotHello_449 (by decide) ?_
        refine lv_iload hx hb dX4_gotHello_450 (lv_at hl 0 rfl) ?_
        refine hx_sI C0 hU hH h dX4_gotHello_452 (fun w H locs hH h => ?_)
        refine lv_dup hx hb dX4_gotHello_453 rfl ?_
        refine lv_iconst (v := 2) hx hb dX4_gotHello_454 (by decide) ?_
        refine lv_iconst (v := 1) hx hb dX4_gotHello_455 (by decide) ?_
        refine hx_sI C0 hU hH h dX4_gotHello_456 (fun w H locs hH h => ?_)
        refine hx_Si C0 hU hH (As := [va_rf (some b_42)]) (wk_X4_mix l h) (va_cwS 1 hts (lw_S q1273 q1274 q71 q1275) rfl rfl rfl (by decide +kernel) ⟨Nat.le_of_ble_eq_true rfl, Nat.le_of_ble_eq_true rfl⟩) rfl hl.1 rfl (Nat.le_of_ble_eq_true rfl) dX4_gotHello_457 ⟨Nat.le_of_ble_eq_true rfl, Nat.le_of_ble_eq_true rfl⟩ (fun i_43 w H locs hH h => ?_)
        refine lv_iconst (v := 3) hx hb dX4_gotHello_460 (by decide) ?_
        refine hx_nI C0 hU hH (Nat.le_of_ble_eq_true rfl) (Nat.le_of_ble_eq_true rfl) (Nat.le_of_ble_eq_true rfl) h dX4_gotHello_461 (fun b_44 w H locs hH h => ?_)
        refine lv_dup hx hb dX4_gotHello_463 rfl ?_
        refine lv_iconst (v := 0) hx hb dX4_gotHello_464 (by decide) ?_
        refine lv_iconst (v := 5) hx hb dX4_gotHello_465 (by decide) ?_
        refine hx_sI C0 hU hH h dX4_gotHello_466 (fun w H locs hH h => ?_)
        refine lv_dup hx hb dX4_gotHello_467 rfl ?_
        refine lv_iconst (v := 1) hx hb dX4_gotHello_468 (by decide) ?_
        refine lv_iload hx hb dX4_gotHello_469 (lv_at hl 0 rfl) ?_
        refine hx_sI C0 hU hH h dX4_gotHello_471 (fun w H locs hH h => ?_)
        refine lv_dup hx hb dX4_gotHello_472 rfl ?_
        refine lv_iconst (v := 2) hx hb dX4_gotHello_473 (by decide) ?_
        refine lv_iconst (v := 0) hx hb dX4_gotHello_474 (by decide) ?_
        refine hx_sI C0 hU hH h dX4_gotHello_475 (fun w H locs hH h => ?_)
        refine hx_Si C0 hU hH (As := [va_rf (some b_44)]) (wk_X4_mix l h) (va_cwS 1 hts (lw_S q1273 q1274 q71 q1275) rfl rfl rfl (by decide +kernel) ⟨Nat.le_of_ble_eq_true rfl, Nat.le_of_ble_eq_true rfl⟩) rfl hl.1 rfl (Nat.le_of_ble_eq_true rfl) dX4_gotHello_476 ⟨Nat.le_of_ble_eq_true rfl, Nat.le_of_ble_eq_true rfl⟩ (fun i_45 w H locs hH h => ?_)
        refine lv_iconst (v := 0) hx hb dX4_gotHello_479 (by decide) ?_
        obtain ⟨ho, h⟩ := h
        refine hx_Vv C0 hU hH (As := [.int x1, .int x8, .int (2 : Int32), .int i_26, .int x3, .int i_43, .int i_45, .int (0 : Int32)]) (wk_X4_make l h) (cwV 8 hts (lw_V q1310 q1312 qs50 q71 q1313) rfl rfl rfl (by decide +kernel) ⟨Nat.le_of_ble_eq_true rfl, Nat.le_of_ble_eq_true rfl⟩) (hx_recv hU hH (ci := 3) rfl ho) rfl hl.1 rfl (Nat.le_of_ble_eq_true rfl) dX4_gotHello_480 ⟨Nat.le_of_ble_eq_true rfl, Nat.le_of_ble_eq_true rfl⟩ (fun w H locs hH h => ?_)
        refine lv_iconst (v := 3) hx hb dX4_gotHello_483 (by decide) ?_
        exact hx_reti C0 hH hr hlocks h (Nat.le_of_ble_eq_true rfl) (Nat.le_of_ble_eq_true rfl) dX4_gotHello_484
      · have h := h.2 c_16
        refine lv_bipush (v := -6) hx hb dX4_gotHello_281 (by decide) ?_
        exact hx_reti C0 hH hr hlocks h (Nat.le_of_ble_eq_true rfl) (Nat.le_of_ble_eq_true rfl) dX4_gotHello_283
    · have h := h.2 c_10
      refine lv_bipush (v := -2) hx hb dX4_gotHello_264 (by decide) ?_
      exact hx_reti C0 hH hr hlocks h (Nat.le_of_ble_eq_true rfl) (Nat.le_of_ble_eq_true rfl) dX4_gotHello_266
  refine hx_aload_n C0 dX4_gotHello_0 rfl (lv_at hl 2 rfl) ?_
  refine lv_iconst (v := 3) hx hb dX4_gotHello_1 (by decide) ?_
  refine hx_aI C0 hU hH h dX4_gotHello_2 (fun i_1 h => ?_)
  refine lv_istore_n hx hb dX4_gotHello_3 rfl hl (by decide) (lv' := [(3, .int i_1), (0, va_rf (some a0)), (1, .int x1), (2, va_rf (some a2))]) rfl (fun ls hl => ?_)
  refine hx_aload_n C0 dX4_gotHello_4 rfl (lv_at hl 3 rfl) ?_
  refine lv_iconst (v := 4) hx hb dX4_gotHello_5 (by decide) ?_
  refine hx_aI C0 hU hH h dX4_gotHello_6 (fun i_2 h => ?_)
  refine lv_istore hx hb dX4_gotHello_7 hl (by decide) (lv' := [(4, .int i_2), (3, .int i_1), (0, va_rf (some a0)), (1, .int x1), (2, va_rf (some a2))]) rfl (fun ls hl => ?_)
  refine hx_aload_n C0 dX4_gotHello_9 rfl (lv_at hl 4 rfl) ?_
  refine lv_iconst (v := 5) hx hb dX4_gotHello_10 (by decide) ?_
  refine hx_aI C0 hU hH h dX4_gotHello_11 (fun i_3 h => ?_)
  refine lv_istore hx hb dX4_gotHello_12 hl (by decide) (lv' := [(5, .int i_3), (4, .int i_2), (3, .int i_1), (0, va_rf (some a0)), (1, .int x1), (2, va_rf (some a2))]) rfl (fun ls hl => ?_)
  refine hx_aload_n C0 dX4_gotHello_14 rfl (lv_at hl 5 rfl) ?_
  refine lv_bipush (v := 6) hx hb dX4_gotHello_15 (by decide) ?_
  refine hx_aI C0 hU hH h dX4_gotHello_17 (fun i_4 h => ?_)
  refine lv_istore hx hb dX4_gotHello_18 hl (by decide) (lv' := [(6, .int i_4), (5, .int i_3), (4, .int i_2), (3, .int i_1), (0, va_rf (some a0)), (1, .int x1), (2, va_rf (some a2))]) rfl (fun ls hl => ?_)
  refine hx_aload_n C0 dX4_gotHello_20 rfl (lv_at hl 6 rfl) ?_
  refine lv_bipush (v := 7) hx hb dX4_gotHello_21 (by decide) ?_
  refine hx_aI C0 hU hH h dX4_gotHello_23 (fun i_5 h => ?_)
  refine lv_istore hx hb dX4_gotHello_24 hl (by decide) (lv' := [(7, .int i_5), (6, .int i_4), (5, .int i_3), (4, .int i_2), (3, .int i_1), (0, va_rf (some a0)), (1, .int x1), (2, va_rf (some a2))]) rfl (fun ls hl => ?_)
  refine lv_iload hx hb dX4_gotHello_26 (lv_at hl 2 rfl) ?_
  refine lv_bipush (v := 10) hx hb dX4_gotHello_28 (by decide) ?_
  refine lv_idiv hx hb dX4_gotHello_30 (by decide) ?_
  refine lv_topi (fun i_6 ei_6 => ?_)
  have h := h i_6 ei_6
  refine lv_istore hx hb dX4_gotHello_31 hl (by decide) (lv' := [(8, .int i_6), (7, .int i_5), (6, .int i_4), (5, .int i_3), (4, .int i_2), (3, .int i_1), (0, va_rf (some a0)), (1, .int x1), (2, va_rf (some a2))]) rfl (fun ls hl => ?_)
  refine lv_iload hx hb dX4_gotHello_33 (lv_at hl 3 rfl) ?_
  refine lv_bipush (v := 10) hx hb dX4_gotHello_35 (by decide) ?_
  refine lv_irem hx hb dX4_gotHello_37 (by decide) ?_
  refine lv_topi (fun i_7 ei_7 => ?_)
  have h := h i_7 ei_7
  refine lv_iload_n hx hb dX4_gotHello_38 rfl (lv_at hl 7 rfl) ?_
  refine lv_icmp_eq hx hb dX4_gotHello_39 (tgt := 44) (by decide) (fun c_8 => ?_) (fun c_8 => ?_)
  · have h := h.1 c_8
    refine lv_iconst (v := 4) hx hb dX4_gotHello_44 (by decide) ?_
    refine hx_nI C0 hU hH (Nat.le_of_ble_eq_true rfl) (Nat.le_of_ble_eq_true rfl) (Nat.le_of_ble_eq_true rfl) h dX4_gotHello_45 (fun b_9 w H locs hH h => ?_)
    refine lv_dup hx hb dX4_gotHello_47 rfl ?_
    refine lv_iconst (v := 0) hx hb dX4_gotHello_48 (by decide) ?_
    refine lv_bipush (v := 6) hx hb dX4_gotHello_49 (by decide) ?_
    refine hx_sI C0 hU hH h dX4_gotHello_51 (fun w H locs hH h => ?_)
    refine lv_dup hx hb dX4_gotHello_52 rfl ?_
    refine lv_iconst (v := 1) hx hb dX4_gotHello_53 (by decide) ?_
    refine lv_iload_n hx hb dX4_gotHello_54 rfl (lv_at hl 7 rfl) ?_
    refine hx_Si C0 hU hH (As := [.int x1]) (wk_X4_secretOf l h) (va_cwS 1 hts (lw_S q1260 q1261 q71 q1262) rfl rfl rfl (by decide +kernel) ⟨Nat.le_of_ble_eq_true rfl, Nat.le_of_ble_eq_true rfl⟩) rfl hl.1 rfl (Nat.le_of_ble_eq_true rfl) dX4_gotHello_55 ⟨Nat.le_of_ble_eq_true rfl, Nat.le_of_ble_eq_true rfl⟩ (fun i_10 w H locs hH h => ?_)
    refine hx_sI C0 hU hH h dX4_gotHello_58 (fun w H locs hH h => ?_)
    refine lv_dup hx hb dX4_gotHello_59 rfl ?_
    refine lv_iconst (v := 2) hx hb dX4_gotHello_60 (by decide) ?_
    refine hx_aload_n C0 dX4_gotHello_61 rfl (lv_at hl 6 rfl) ?_
    refine hx_gI C0 hU hH (ci := 3) rfl in_X4 0 (by decide) q1071 (fun _ h9 => h9) h dX4_gotHello_62 (fun i_11 h => ?_)
    refine lv_bipush (v := 60) hx hb dX4_gotHello_65 (by decide) ?_
    refine lv_idiv hx hb dX4_gotHello_67 (by decide) ?_
    refine lv_topi (fun i_12 ei_12 => ?_)
    have h := h i_12 ei_12
    refine hx_sI C0 hU hH h dX4_gotHello_68 (fun w H locs hH h => ?_)
    refine lv_dup hx hb dX4_gotHello_69 rfl ?_
    refine lv_iconst (v := 3) hx hb dX4_gotHello_70 (by decide) ?_
    refine hx_aload_n C0 dX4_gotHello_71 rfl (lv_at hl 8 rfl) ?_
    refine lv_iconst (v := 0) hx hb dX4_gotHello_72 (by decide) ?_
    refine hx_aI C0 hU hH h dX4_gotHello_73 (fun i_13 h => ?_)
    refine hx_sI C0 hU hH h dX4_gotHello_74 (fun w H locs hH h => ?_)
    refine hx_Si C0 hU hH (As := [va_rf (some b_9)]) (wk_X4_mix l h) (va_cwS 1 hts (lw_S q1273 q1274 q71 q1275) rfl rfl rfl (by decide +kernel) ⟨Nat.le_of_ble_eq_true rfl, Nat.le_of_ble_eq_true rfl⟩) rfl hl.1 rfl (Nat.le_of_ble_eq_true rfl) dX4_gotHello_75 ⟨Nat.le_of_ble_eq_true rfl, Nat.le_of_ble_eq_true rfl⟩ (fun i_14 w H locs hH h => ?_)
    refine lv_istore hx hb dX4_gotHello_78 hl (by decide) (lv' := [(9, .int i_14), (8, .int i_6), (7, .int i_5), (6, .int i_4), (5, .int i_3), (4, .int i_2), (3, .int i_1), (0, va_rf (some a0)), (1, .int x1), (2, va_rf (some a2))]) rfl (fun ls hl => ?_)
    refine hx_aload_n C0 dX4_gotHello_80 rfl (lv_at hl 7 rfl) ?_
    refine hx_gR C0 hU hH (ci := 3) rfl in_X4 8 (by decide) q1079 (fun _ h9 => h9) h dX4_gotHello_81 (fun r_15 h => ?_)
    refine lv_iload_n hx hb dX4_gotHello_84 rfl (lv_at hl 8 rfl) ?_
    obtain ⟨b_16, rfl, h9⟩ := h
    have h := h9
    clear h9
    refine hx_aZ C0 hU hH h dX4_gotHello_85 (fun i_17 h => ?_)
    refine lv_if_eq hx hb dX4_gotHello_86 (tgt := 189) (by decide) (fun c_18 => ?_) (fun c_18 => ?_)
    · have h := h.1 c_18
      refine W.widen (k := 2) (n := 7) (Nat.le_of_ble_eq_true rfl) (Nat.le_of_ble_eq_true rfl) ?_
      exact b189 _ _ _ _ _ _ _ _ _ _ h _ _ _ hH (lv_sub hl [7, 8, 9, 6, 5, 4, 3, 2, 1] rfl)
    · have h := h.2 c_18
      refine hx_aload_n C0 dX4_gotHello_89 rfl (lv_at hl 9 rfl) ?_
      refine lv_bipush (v := 8) hx hb dX4_gotHello_90 (by decide) ?_
      refine hx_aI C0 hU hH h dX4_gotHello_92 (fun i_19 h => ?_)
      refine lv_iconst (v := 3) hx hb dX4_gotHello_93 (by decide) ?_
      refine hx_nI C0 hU hH (Nat.le_of_ble_eq_true rfl) (Nat.le_of_ble_eq_true rfl) (Nat.le_of_ble_eq_true rfl) h dX4_gotHello_94 (fun b_20 w H locs hH h => ?_)
      refine lv_dup hx hb dX4_gotHello_96 rfl ?_
      refine lv_iconst (v := 0) hx hb dX4_gotHello_97 (by decide) ?_
      refine lv_iconst (v := 2) hx hb dX4_gotHello_98 (by decide) ?_
      refine hx_sI C0 hU hH h dX4_gotHello_99 (fun w H locs hH h => ?_)
      refine lv_dup hx hb dX4_gotHello_100 rfl ?_
      refine lv_iconst (v := 1) hx hb dX4_gotHello_101 (by decide) ?_
      refine lv_iload hx hb dX4_gotHello_102 (lv_at hl 0 rfl) ?_
      refine hx_sI C0 hU hH h dX4_gotHello_104 (fun w H locs hH h => ?_)
      refine lv_dup hx hb dX4_gotHello_105 rfl ?_
      refine lv_iconst (v := 2) hx hb dX4_gotHello_106 (by decide) ?_
      refine lv_iload hx hb dX4_gotHello_107 (lv_at hl 2 rfl) ?_
      refine hx_sI C0 hU hH h dX4_gotHello_109 (fun w H locs hH h => ?_)
      refine hx_Si C0 hU hH (As := [va_rf (some b_20)]) (wk_X4_mix l h) (va_cwS 1 hts (lw_S q1273 q1274 q71 q1275) rfl rfl rfl (by decide +kernel) ⟨Nat.le_of_ble_eq_true rfl, Nat.le_of_ble_eq_true rfl⟩) rfl hl.1 rfl (Nat.le_of_ble_eq_true rfl) dX4_gotHello_110 ⟨Nat.le_of_ble_eq_true rfl, Nat.le_of_ble_eq_true rfl⟩ (fun i_21 w H locs hH h => ?_)
      refine lv_icmp_eq hx hb dX4_gotHello_113 (tgt := 189) (by decide) (fun c_22 => ?_) (fun c_22 => ?_)
      · have h := h.1 c_22
        refine W.widen (k := 2) (n := 7) (Nat.le_of_ble_eq_true rfl) (Nat.le_of_ble_eq_true rfl) ?_
        exact b189 _ _ _ _ _ _ _ _ _ _ h _ _ _ hH (lv_sub hl [7, 8, 9, 6, 5, 4, 3, 2, 1] rfl)
      · have h := h.2 c_22
        refine hx_aload_n C0 dX4_gotHello_116 rfl (lv_at hl 7 rfl) ?_
        refine hx_aload_n C0 dX4_gotHello_117 rfl (lv_at hl 7 rfl) ?_
        refine hx_gR C0 hU hH (ci := 3) rfl in_X4 4 (by decide) q1075 (fun _ h9 => h9) h dX4_gotHello_118 (fun r_23 h => ?_)
        refine lv_iload_n hx hb dX4_gotHello_121 rfl (lv_at hl 8 rfl) ?_
        obtain ⟨b_24, rfl, h9⟩ := h
        have h := h9
        clear h9
        refine hx_aI C0 hU hH h dX4_gotHello_122 (fun i_25 h => ?_)
        refine hx_aload_n C0 dX4_gotHello_123 rfl (lv_at hl 9 rfl) ?_
        refine lv_iconst (v := 0) hx hb dX4_gotHello_124 (by decide) ?_
        refine hx_aI C0 hU hH h dX4_gotHello_125 (fun i_26 h => ?_)
        refine lv_iconst (v := 3) hx hb dX4_gotHello_126 (by decide) ?_
        refine lv_iconst (v := 3) hx hb dX4_gotHello_127 (by decide) ?_
        refine hx_nI C0 hU hH (Nat.le_of_ble_eq_true rfl) (Nat.le_of_ble_eq_true rfl) (Nat.le_of_ble_eq_true rfl) h dX4_gotHello_128 (fun b_27 w H locs hH h => ?_)
        refine lv_dup hx hb dX4_gotHello_130 rfl ?_
        refine lv_iconst (v := 0) hx hb dX4_gotHello_131 (by decide) ?_
        refine lv_iload_n hx hb dX4_gotHello_132 rfl (lv_at hl 6 rfl) ?_
        refine hx_sI C0 hU hH h dX4_gotHello_133 (fun w H locs hH h => ?_)
        refine lv_dup hx hb dX4_gotHello_134 rfl ?_
        refine lv_iconst (v := 1) hx hb dX4_gotHello_135 (by decide) ?_
        refine lv_iload hx hb dX4_gotHello_136 (lv_at hl 0 rfl) ?_
        refine hx_sI C0 hU hH h dX4_gotHello_138 (fun w H locs hH h => ?_)
        refine lv_dup hx hb dX4_gotHello_139 rfl ?_
        refine lv_iconst (v := 2) hx hb dX4_gotHello_140 (by decide) ?_
        refine lv_iconst (v := 3) hx hb dX4_gotHello_141 (by decide) ?_
        refine hx_nI C0 hU hH (Nat.le_of_ble_eq_true rfl) (Nat.le_of_ble_eq_true rfl) (Nat.le_of_ble_eq_true rfl) h dX4_gotHello_142 (fun b_28 w H locs hH h => ?_)
        refine lv_dup hx hb dX4_gotHello_144 rfl ?_
        refine lv_iconst (v := 0) hx hb dX4_gotHello_145 (by decide) ?_
        refine lv_iconst (v := 3) hx hb dX4_gotHello_146 (by decide) ?_
        refine hx_sI C0 hU hH h dX4_gotHello_147 (fun w H locs hH h => ?_)
        refine lv_dup hx hb dX4_gotHello_148 rfl ?_
        refine lv_iconst (v := 1) hx hb dX4_gotHello_149 (by decide) ?_
        refine lv_iload_n hx hb dX4_gotHello_150 rfl (lv_at hl 8 rfl) ?_
        refine hx_SiW C0 hU hH (As := [.int x1]) (wk_X4_nameOf l h) (va_cwS 1 hts (lw_S q1257 q1258 q71 q1259) rfl rfl rfl (by decide +kernel) ⟨Nat.le_of_ble_eq_true rfl, Nat.le_of_ble_eq_true rfl⟩) (Nat.le_of_ble_eq_true rfl) rfl hl.1 rfl (Nat.le_of_ble_eq_true rfl) dX4_gotHello_151 ⟨Nat.le_of_ble_eq_true rfl, Nat.le_of_ble_eq_true rfl⟩ (fun i_29 w H locs hH h => ?_)
        refine hx_sI C0 hU hH h dX4_gotHello_154 (fun w H locs hH h => ?_)
        refine lv_dup hx hb dX4_gotHello_155 rfl ?_
        refine lv_iconst (v := 2) hx hb dX4_gotHello_156 (by decide) ?_
        refine lv_iload hx hb dX4_gotHello_157 (lv_at hl 2 rfl) ?_
        refine hx_sI C0 hU hH h dX4_gotHello_159 (fun w H locs hH h => ?_)
        refine hx_Si C0 hU hH (As := [va_rf (some b_28)]) (wk_X4_mix l h) (va_cwS 1 hts (lw_S q1273 q1274 q71 q1275) rfl rfl rfl (by decide +kernel) ⟨Nat.le_of_ble_eq_true rfl, Nat.le_of_ble_eq_true rfl⟩) rfl hl.1 rfl (Nat.le_of_ble_eq_true rfl) dX4_gotHello_160 ⟨Nat.le_of_ble_eq_true rfl, Nat.le_of_ble_eq_true rfl⟩ (fun i_30 w H locs hH h => ?_)
        refine lv_iconst (v := 3) hx hb dX4_gotHello_163 (by decide) ?_
        refine hx_nI C0 hU hH (Nat.le_of_ble_eq_true rfl) (Nat.le_of_ble_eq_true rfl) (Nat.le_of_ble_eq_true rfl) h dX4_gotHello_164 (fun b_31 w H locs hH h => ?_)
        refine lv_dup hx hb dX4_gotHello_166 rfl ?_
        refine lv_iconst (v := 0) hx hb dX4_gotHello_167 (by decide) ?_
        refine lv_iconst (v := 3) hx hb dX4_gotHello_168 (by decide) ?_
        refine hx_sI C0 hU hH h dX4_gotHello_169 (fun w H locs hH h => ?_)
        refine lv_dup hx hb dX4_gotHello_170 rfl ?_
        refine lv_iconst (v := 1) hx hb dX4_gotHello_171 (by decide) ?_
        refine lv_iload_n hx hb dX4_gotHello_172 rfl (lv_at hl 6 rfl) ?_
        refine hx_sI C0 hU hH h dX4_gotHello_173 (fun w H locs hH h => ?_)
        refine lv_dup hx hb dX4_gotHello_174 rfl ?_
        refine lv_iconst (v := 2) hx hb dX4_gotHello_175 (by decide) ?_
        refine lv_iload hx hb dX4_gotHello_176 (lv_at hl 0 rfl) ?_
        refine hx_sI C0 hU hH h dX4_gotHello_178 (fun w H locs hH h => ?_)
        refine hx_Si C0 hU hH (As := [.int i_30, va_rf (some b_31)]) (wk_X4_sealOf l h) (va_cwS 2 hts (lw_S q1228 q1229 q71 q1230) rfl rfl rfl (by decide +kernel) ⟨Nat.le_of_ble_eq_true rfl, Nat.le_of_ble_eq_true rfl⟩) rfl hl.1 rfl (Nat.le_of_ble_eq_true rfl) dX4_gotHello_179 ⟨Nat.le_of_ble_eq_true rfl, Nat.le_of_ble_eq_true rfl⟩ (fun i_32 w H locs hH h => ?_)
        refine hx_sI C0 hU hH h dX4_gotHello_182 (fun w H locs hH h => ?_)
        obtain ⟨ho, h⟩ := h
        refine hx_Vv C0 hU hH (As := [.int i_25, .int i_26, .int (3 : Int32), va_rf (some b_27)]) (wk_X4_put l h) (cwV 4 hts (lw_V q1235 q1237 qs41 q71 q1238) rfl rfl rfl (by decide +kernel) ⟨Nat.le_of_ble_eq_true rfl, Nat.le_of_ble_eq_true rfl⟩) (hx_recv hU hH (ci := 3) rfl ho) rfl hl.1 rfl (Nat.le_of_ble_eq_true rfl) dX4_gotHello_183 ⟨Nat.le_of_ble_eq_true rfl, Nat.le_of_ble_eq_true rfl⟩ (fun w H locs hH h => ?_)
        refine lv_bipush (v := -7) hx hb dX4_gotHello_186 (by decide) ?_
        exact hx_reti C0 hH hr hlocks h (Nat.le_of_ble_eq_true rfl) (Nat.le_of_ble_eq_true rfl) dX4_gotHello_188
  · have h := h.2 c_8
    refine lv_iconst (v := -1) hx hb dX4_gotHello_42 (by decide) ?_
    exact hx_reti C0 hH hr hlocks h (Nat.le_of_ble_eq_true rfl) (Nat.le_of_ble_eq_true rfl) dX4_gotHello_43
def wp_X4_gotReply (w : Hp) (a0 : Nat) (x1 : Int32) (a2 : Nat) (K : Hp → Int32 → Prop) : Prop :=
  aI w a2 (3 : Int32) fun i_1 => aI w a2 (4 : Int32) fun i_2 => aI w a2 (5 : Int32) fun i_3 => isO w a0 3 <| wp_X4_inFlight w a0 x1 i_2 fun w i_4 => br (i_4 = (-1 : Int32)) (K w (-1 : Int32)) (gR w a0 3 14 fun r_6 => dR r_6 fun b_7 => aR w b_7 x1 fun r_8 => dR r_8 fun b_9 => aI w b_9 i_4 fun i_10 => nI_ w (4 : Int32) 4 fun w b_11 => sI w b_11 (0 : Int32) (4 : Int32) fun w => isO w a0 3 <| wp_X4_keyOf w a0 x1 i_4 i_10 fun w i_12 => sI w b_11 (1 : Int32) i_12 fun w => wp_X4_both w i_10 i_3 fun w i_13 => sI w b_11 (2 : Int32) i_13 fun w => wp_X4_secretOf w x1 fun w i_14 => wp_X4_both w i_14 i_3 fun w i_15 => sI w b_11 (3 : Int32) i_15 fun w => wp_X4_mix w b_11 fun w i_16 => aI w a2 (6 : Int32) fun i_17 => nI_ w (4 : Int32) 4 fun w b_18 => sI w b_18 (0 : Int32) (2 : Int32) fun w => sI w b_18 (1 : Int32) i_1 fun w => sI w b_18 (2 : Int32) i_2 fun w => sI w b_18 (3 : Int32) i_3 fun w => wp_X4_sealOf w i_16 b_18 fun w i_19 => br (i_17 = i_19) (gR w a0 3 13 fun r_21 => dR r_21 fun b_22 => aR w b_22 x1 fun r_23 => dR r_23 fun b_24 => sI w b_24 i_4 (-1 : Int32) fun w => gR w a0 3 10 fun r_25 => dR r_25 fun b_26 => aR w b_26 x1 fun r_27 => aI w a2 (0 : Int32) fun i_28 => dR r_27 fun b_29 => sI w b_29 i_4 i_28 fun w => isO w a0 3 <| wp_X4_turnOver w a0 x1 i_4 fun w => nI_ w (3 : Int32) 3 fun w b_30 => sI w b_30 (0 : Int32) (5 : Int32) fun w => sI w b_30 (1 : Int32) i_16 fun w => sI w b_30 (2 : Int32) (0 : Int32) fun w => wp_X4_mix w b_30 fun w i_31 => nI_ w (3 : Int32) 3 fun w b_32 => sI w b_32 (0 : Int32) (5 : Int32) fun w => sI w b_32 (1 : Int32) i_16 fun w => sI w b_32 (2 : Int32) (1 : Int32) fun w => wp_X4_mix w b_32 fun w i_33 => isO w a0 3 <| wp_X4_make w a0 x1 i_4 (1 : Int32) i_2 i_1 i_31 i_33 (1 : Int32) fun w => gR w a0 3 19 fun r_34 => dR r_34 fun b_35 => aR w b_35 x1 fun r_36 => dR r_36 fun b_37 => aI w b_37 i_4 fun i_38 => br (i_38 = 0) (isO w a0 3 <| wp_X4_data w a0 x1 i_4 (-1 : Int32) (-1 : Int32) (-1 : Int32) fun w => K w (3 : Int32)) (isO w a0 3 <| wp_X4_sendWaiting w a0 x1 i_4 fun w => K w (3 : Int32))) (K w (-2 : Int32)))
abbrev rm_X4_gotReply : Room := { frames := 4, cells := 22, slots := 206, locals := 101 }
abbrev ws9_X4_gotReply : List Cond := ws_ yX4_gotReply cX4_gotReply 9 (Option.some Jvm.ClassFile.FieldType.int)
abbrev Q9_X4_gotReply (below : List Frame) (args : Array Value) (s : State) (G : hG) (K : Hp → Int32 → Prop) : State → Prop := MQ below (hx_Qi G K) args s 22 206 (hx_A G)
set_option maxHeartbeats 4000000 in
set_option maxRecDepth 100000 in
theorem wk_X4_gotReply (l : Launch) {G : hG} {w : Hp} {a0 : Nat} {x1 : Int32} {a2 : Nat} {K : Hp → Int32 → Prop} (h : wp_X4_gotReply w a0 x1 a2 K) : hx_Mi l yX4_gotReply (ws9_X4_gotReply) rm_X4_gotReply G w [.ref a0, .int x1, .ref a2] K 22 206 := by
  refine Met.ofW (cc := cX4_gotReply) (maxL := 9) (ret := (Option.some Jvm.ClassFile.FieldType.int)) (by decide +kernel) rfl ?_
  intro p e s m args below meth c s₁ B hml hv
  refine hx_in (own := RX4) (av := [.ref a0, .int x1, .ref a2]) (vl := [(0, va_rf (some a0)), (1, .int x1), (2, va_rf (some a2))]) rfl rfl (Nat.le_of_ble_eq_true rfl) rfl B hml hv ?_
  intro C0 hU hH hr hlocks hin ls hl
  have hx := C0.1
  have hb := C0.2.1
  have hts := C0.2.2.2.2
  refine hx_aload_n C0 dX4_gotReply_0 rfl (lv_at hl 2 rfl) ?_
  refine lv_iconst (v := 3) hx hb dX4_gotReply_1 (by decide) ?_
  refine hx_aI C0 hU hH h dX4_gotReply_2 (fun i_1 h => ?_)
  refine lv_istore_n hx hb dX4_gotReply_3 rfl hl (by decide) (lv' := [(3, .int i_1), (0, va_rf (some a0)), (1, .int x1), (2, va_rf (some a2))]) rfl (fun ls hl => ?_)
  refine hx_aload_n C0 dX4_gotReply_4 rfl (lv_at hl 3 rfl) ?_
  refine lv_iconst (v := 4) hx hb dX4_gotReply_5 (by decide) ?_
  refine hx_aI C0 hU hH h dX4_gotReply_6 (fun i_2 h => ?_)
  refine lv_istore hx hb dX4_gotReply_7 hl (by decide) (lv' := [(4, .int i_2), (3, .int i_1), (0, va_rf (some a0)), (1, .int x1), (2, va_rf (some a2))]) rfl (fun ls hl => ?_)
  refine hx_aload_n C0 dX4_gotReply_9 rfl (lv_at hl 4 rfl) ?_
  refine lv_iconst (v := 5) hx hb dX4_gotReply_10 (by decide) ?_
  refine hx_aI C0 hU hH h dX4_gotReply_11 (fun i_3 h => ?_)
  refine lv_istore hx hb dX4_gotReply_12 hl (by decide) (lv' := [(5, .int i_3), (4, .int i_2), (3, .int i_1), (0, va_rf (some a0)), (1, .int x1), (2, va_rf (some a2))]) rfl (fun ls hl => ?_)
  refine hx_aload_n C0 dX4_gotReply_14 rfl (lv_at hl 3 rfl) ?_
  refine lv_iload_n hx hb dX4_gotReply_15 rfl (lv_at hl 4 rfl) ?_
  refine lv_iload hx hb dX4_gotReply_16 (lv_at hl 1 rfl) ?_
  obtain ⟨ho, h⟩ := h
  refine hx_Vi C0 hU hH (As := [.int x1, .int i_2]) (wk_X4_inFlight l h) (cwV 2 hts (lw_V q1318 q1320 qs52 q71 q1321) rfl rfl rfl (by decide +kernel) ⟨Nat.le_of_ble_eq_true rfl, Nat.le_of_ble_eq_true rfl⟩) (hx_recv hU hH (ci := 3) rfl ho) rfl hl.1 rfl (Nat.le_of_ble_eq_true rfl) dX4_gotReply_18 ⟨Nat.le_of_ble_eq_true rfl, Nat.le_of_ble_eq_true rfl⟩ (fun i_4 w H locs hH h => ?_)
  refine lv_istore hx hb dX4_gotReply_21 hl (by decide) (lv' := [(6, .int i_4), (5, .int i_3), (4, .int i_2), (3, .int i_1), (0, va_rf (some a0)), (1, .int x1), (2, va_rf (some a2))]) rfl (fun ls hl => ?_)
  refine lv_iload hx hb dX4_gotReply_23 (lv_at hl 0 rfl) ?_
  refine lv_iconst (v := -1) hx hb dX4_gotReply_25 (by decide) ?_
  refine lv_icmp_ne hx hb dX4_gotReply_26 (tgt := 31) (by decide) (fun c_5 => ?_) (fun c_5 => ?_)
  · have h := h.2 c_5
    refine hx_aload_n C0 dX4_gotReply_31 rfl (lv_at hl 4 rfl) ?_
    refine hx_gR C0 hU hH (ci := 3) rfl in_X4 14 (by decide) q1085 (fun _ h9 => h9) h dX4_gotReply_32 (fun r_6 h => ?_)
    refine lv_iload_n hx hb dX4_gotReply_35 rfl (lv_at hl 5 rfl) ?_
    obtain ⟨b_7, rfl, h9⟩ := h
    have h := h9
    clear h9
    refine hx_aR C0 hU hH h dX4_gotReply_36 (fun r_8 h => ?_)
    refine lv_iload hx hb dX4_gotReply_37 (lv_at hl 0 rfl) ?_
    obtain ⟨b_9, rfl, h9⟩ := h
    have h := h9
    clear h9
    refine hx_aI C0 hU hH h dX4_gotReply_39 (fun i_10 h => ?_)
    refine lv_istore hx hb dX4_gotReply_40 hl (by decide) (lv' := [(7, .int i_10), (6, .int i_4), (5, .int i_3), (4, .int i_2), (3, .int i_1), (0, va_rf (some a0)), (1, .int x1), (2, va_rf (some a2))]) rfl (fun ls hl => ?_)
    refine lv_iconst (v := 4) hx hb dX4_gotReply_42 (by decide) ?_
    refine hx_nI C0 hU hH (Nat.le_of_ble_eq_true rfl) (Nat.le_of_ble_eq_true rfl) (Nat.le_of_ble_eq_true rfl) h dX4_gotReply_43 (fun b_11 w H locs hH h => ?_)
    refine lv_dup hx hb dX4_gotReply_45 rfl ?_
    refine lv_iconst (v := 0) hx hb dX4_gotReply_46 (by decide) ?_
    refine lv_iconst (v := 4) hx hb dX4_gotReply_47 (by decide) ?_
    refine hx_sI C0 hU hH h dX4_gotReply_48 (fun w H locs hH h => ?_)
    refine lv_dup hx hb dX4_gotReply_49 rfl ?_
    refine lv_iconst (v := 1) hx hb dX4_gotReply_50 (by decide) ?_
    refine hx_aload_n C0 dX4_gotReply_51 rfl (lv_at hl 5 rfl) ?_
    refine lv_iload_n hx hb dX4_gotReply_52 rfl (lv_at hl 6 rfl) ?_
    refine lv_iload hx hb dX4_gotReply_53 (lv_at hl 1 rfl) ?_
    refine lv_iload hx hb dX4_gotReply_55 (lv_at hl 0 rfl) ?_
    obtain ⟨ho, h⟩ := h
    refine hx_Vi C0 hU hH (As := [.int x1, .int i_4, .int i_10]) (wk_X4_keyOf l h) (cwV 3 hts (lw_V q1253 q1255 qs44 q71 q1256) rfl rfl rfl (by decide +kernel) ⟨Nat.le_of_ble_eq_true rfl, Nat.le_of_ble_eq_true rfl⟩) (hx_recv hU hH (ci := 3) rfl ho) rfl hl.1 rfl (Nat.le_of_ble_eq_true rfl) dX4_gotReply_57 ⟨Nat.le_of_ble_eq_true rfl, Nat.le_of_ble_eq_true rfl⟩ (fun i_12 w H locs hH h => ?_)
    refine hx_sI C0 hU hH h dX4_gotReply_60 (fun w H locs hH h => ?_)
    refine lv_dup hx hb dX4_gotReply_61 rfl ?_
    refine lv_iconst (v := 2) hx hb dX4_gotReply_62 (by decide) ?_
    refine lv_iload hx hb dX4_gotReply_63 (lv_at hl 0 rfl) ?_
    refine lv_iload hx hb dX4_gotReply_65 (lv_at hl 2 rfl) ?_
    refine hx_Si C0 hU hH (As := [.int i_10, .int i_3]) (wk_X4_both l h) (va_cwS 2 hts (lw_S q1270 q1271 q71 q1272) rfl rfl rfl (by decide +kernel) ⟨Nat.le_of_ble_eq_true rfl, Nat.le_of_ble_eq_true rfl⟩) rfl hl.1 rfl (Nat.le_of_ble_eq_true rfl) dX4_gotReply_67 ⟨Nat.le_of_ble_eq_true rfl, Nat.le_of_ble_eq_true rfl⟩ (fun i_13 w H locs hH h => ?_)
    refine hx_sI C0 hU hH h dX4_gotReply_70 (fun w H locs hH h => ?_)
    refine lv_dup hx hb dX4_gotReply_71 rfl ?_
    refine lv_iconst (v := 3) hx hb dX4_gotReply_72 (by decide) ?_
    refine lv_iload_n hx hb dX4_gotReply_73 rfl (lv_at hl 6 rfl) ?_
    refine hx_Si C0 hU hH (As := [.int x1]) (wk_X4_secretOf l h) (va_cwS 1 hts (lw_S q1260 q1261 q71 q1262) rfl rfl rfl (by decide +kernel) ⟨Nat.le_of_ble_eq_true rfl, Nat.le_of_ble_eq_true rfl⟩) rfl hl.1 rfl (Nat.le_of_ble_eq_true rfl) dX4_gotReply_74 ⟨Nat.le_of_ble_eq_true rfl, Nat.le_of_ble_eq_true rfl⟩ (fun i_14 w H locs hH h => ?_)
    refine lv_iload hx hb dX4_gotReply_77 (lv_at hl 2 rfl) ?_
    refine hx_Si C0 hU hH (As := [.int i_14, .int i_3]) (wk_X4_both l h) (va_cwS 2 hts (lw_S q1270 q1271 q71 q1272) rfl rfl rfl (by decide +kernel) ⟨Nat.le_of_ble_eq_true rfl, Nat.le_of_ble_eq_true rfl⟩) rfl hl.1 rfl (Nat.le_of_ble_eq_true rfl) dX4_gotReply_79 ⟨Nat.le_of_ble_eq_true rfl, Nat.le_of_ble_eq_true rfl⟩ (fun i_15 w H locs hH h => ?_)
    refine hx_sI C0 hU hH h dX4_gotReply_82 (fun w H locs hH h => ?_)
    refine hx_Si C0 hU hH (As := [va_rf (some b_11)]) (wk_X4_mix l h) (va_cwS 1 hts (lw_S q1273 q1274 q71 q1275) rfl rfl rfl (by decide +kernel) ⟨Nat.le_of_ble_eq_true rfl, Nat.le_of_ble_eq_true rfl⟩) rfl hl.1 rfl (Nat.le_of_ble_eq_true rfl) dX4_gotReply_83 ⟨Nat.le_of_ble_eq_true rfl, Nat.le_of_ble_eq_true rfl⟩ (fun i_16 w H locs hH h => ?_)
    refine lv_istore hx hb dX4_gotReply_86 hl (by decide) (lv' := [(8, .int i_16), (7, .int i_10), (6, .int i_4), (5, .int i_3), (4, .int i_2), (3, .int i_1), (0, va_rf (some a0)), (1, .int x1), (2, va_rf (some a2))]) rfl (fun ls hl => ?_)
    refine hx_aload_n C0 dX4_gotReply_88 rfl (lv_at hl 8 rfl) ?_
    refine lv_bipush (v := 6) hx hb dX4_gotReply_89 (by decide) ?_
    refine hx_aI C0 hU hH h dX4_gotReply_91 (fun i_17 h => ?_)
    refine lv_iload hx hb dX4_gotReply_92 (lv_at hl 0 rfl) ?_
    refine lv_iconst (v := 4) hx hb dX4_gotReply_94 (by decide) ?_
    refine hx_nI C0 hU hH (Nat.le_of_ble_eq_true rfl) (Nat.le_of_ble_eq_true rfl) (Nat.le_of_ble_eq_true rfl) h dX4_gotReply_95 (fun b_18 w H locs hH h => ?_)
    refine lv_dup hx hb dX4_gotReply_97 rfl ?_
    refine lv_iconst (v := 0) hx hb dX4_gotReply_98 (by decide) ?_
    refine lv_iconst (v := 2) hx hb dX4_gotReply_99 (by decide) ?_
    refine hx_sI C0 hU hH h dX4_gotReply_100 (fun w H locs hH h => ?_)
    refine lv_dup hx hb dX4_gotReply_101 rfl ?_
    refine lv_iconst (v := 1) hx hb dX4_gotReply_102 (by decide) ?_
    refine lv_iload_n hx hb dX4_gotReply_103 rfl (lv_at hl 5 rfl) ?_
    refine hx_sI C0 hU hH h dX4_gotReply_104 (fun w H locs hH h => ?_)
    refine lv_dup hx hb dX4_gotReply_105 rfl ?_
    refine lv_iconst (v := 2) hx hb dX4_gotReply_106 (by decide) ?_
    refine lv_iload hx hb dX4_gotReply_107 (lv_at hl 4 rfl) ?_
    refine hx_sI C0 hU hH h dX4_gotReply_109 (fun w H locs hH h => ?_)
    refine lv_dup hx hb dX4_gotReply_110 rfl ?_
    refine lv_iconst (v := 3) hx hb dX4_gotReply_111 (by decide) ?_
    refine lv_iload hx hb dX4_gotReply_112 (lv_at hl 3 rfl) ?_
    refine hx_sI C0 hU hH h dX4_gotReply_114 (fun w H locs hH h => ?_)
    refine hx_Si C0 hU hH (As := [.int i_16, va_rf (some b_18)]) (wk_X4_sealOf l h) (va_cwS 2 hts (lw_S q1228 q1229 q71 q1230) rfl rfl rfl (by decide +kernel) ⟨Nat.le_of_ble_eq_true rfl, Nat.le_of_ble_eq_true rfl⟩) rfl hl.1 rfl (Nat.le_of_ble_eq_true rfl) dX4_gotReply_115 ⟨Nat.le_of_ble_eq_true rfl, Nat.le_of_ble_eq_true rfl⟩ (fun i_19 w H locs hH h => ?_)
    refine lv_icmp_eq hx hb dX4_gotReply_118 (tgt := 124) (by decide) (fun c_20 => ?_) (fun c_20 => ?_)
    · have h := h.1 c_20
      refine hx_aload_n C0 dX4_gotReply_124 rfl (lv_at hl 6 rfl) ?_
      refine hx_gR C0 hU hH (ci := 3) rfl in_X4 13 (by decide) q1084 (fun _ h9 => h9) h dX4_gotReply_125 (fun r_21 h => ?_)
      refine lv_iload_n hx hb dX4_gotReply_128 rfl (lv_at hl 7 rfl) ?_
      obtain ⟨b_22, rfl, h9⟩ := h
      have h := h9
      clear h9
      refine hx_aR C0 hU hH h dX4_gotReply_129 (fun r_23 h => ?_)
      refine lv_iload hx hb dX4_gotReply_130 (lv_at hl 2 rfl) ?_
      refine lv_iconst (v := -1) hx hb dX4_gotReply_132 (by decide) ?_
      obtain ⟨b_24, rfl, h9⟩ := h
      have h := h9
      clear h9
      refine hx_sI C0 hU hH h dX4_gotReply_133 (fun w H locs hH h => ?_)
      refine hx_aload_n C0 dX4_gotReply_134 rfl (lv_at hl 6 rfl) ?_
      refine hx_gR C0 hU hH (ci := 3) rfl in_X4 10 (by decide) q1081 (fun _ h9 => h9) h dX4_gotReply_135 (fun r_25 h => ?_)
      refine lv_iload_n hx hb dX4_gotReply_138 rfl (lv_at hl 7 rfl) ?_
      obtain ⟨b_26, rfl, h9⟩ := h
      have h := h9
      clear h9
      refine hx_aR C0 hU hH h dX4_gotReply_139 (fun r_27 h => ?_)
      refine lv_iload hx hb dX4_gotReply_140 (lv_at hl 2 rfl) ?_
      refine hx_aload_n C0 dX4_gotReply_142 rfl (lv_at hl 8 rfl) ?_
      refine lv_iconst (v := 0) hx hb dX4_gotReply_143 (by decide) ?_
      refine hx_aI C0 hU hH h dX4_gotReply_144 (fun i_28 h => ?_)
      obtain ⟨b_29, rfl, h9⟩ := h
      have h := h9
      clear h9
      refine hx_sI C0 hU hH h dX4_gotReply_145 (fun w H locs hH h => ?_)
      refine hx_aload_n C0 dX4_gotReply_146 rfl (lv_at hl 6 rfl) ?_
      refine lv_iload_n hx hb dX4_gotReply_147 rfl (lv_at hl 7 rfl) ?_
      refine lv_iload hx hb dX4_gotReply_148 (lv_at hl 2 rfl) ?_
      obtain ⟨ho, h⟩ := h
      refine hx_Vv C0 hU hH (As := [.int x1, .int i_4]) (wk_X4_turnOver l h) (cwV 2 hts (lw_V q1322 q1324 qs53 q71 q1325) rfl rfl rfl (by decide +kernel) ⟨Nat.le_of_ble_eq_true rfl, Nat.le_of_ble_eq_true rfl⟩) (hx_recv hU hH (ci := 3) rfl ho) rfl hl.1 rfl (Nat.le_of_ble_eq_true rfl) dX4_gotReply_150 ⟨Nat.le_of_ble_eq_true rfl, Nat.le_of_ble_eq_true rfl⟩ (fun w H locs hH h => ?_)
      refine hx_aload_n C0 dX4_gotReply_153 rfl (lv_at hl 6 rfl) ?_
      refine lv_iload_n hx hb dX4_gotReply_154 rfl (lv_at hl 7 rfl) ?_
      refine lv_iload hx hb dX4_gotReply_155 (lv_at hl 2 rfl) ?_
      refine lv_iconst (v := 1) hx hb dX4_gotReply_157 (by decide) ?_
      refine lv_iload hx hb dX4_gotReply_158 (lv_at hl 4 rfl) ?_
      refine lv_iload_n hx hb dX4_gotReply_160 rfl (lv_at hl 5 rfl) ?_
      refine lv_iconst (v := 3) hx hb dX4_gotReply_161 (by decide) ?_
      refine hx_nI C0 hU hH (Nat.le_of_ble_eq_true rfl) (Nat.le_of_ble_eq_true rfl) (Nat.le_of_ble_eq_true rfl) h dX4_gotReply_162 (fun b_30 w H locs hH h => ?_)
      refine lv_dup hx hb dX4_gotReply_164 rfl ?_
      refine lv_iconst (v := 0) hx hb dX4_gotReply_165 (by decide) ?_
      refine lv_iconst (v := 5) hx hb dX4_gotReply_166 (by decide) ?_
      refine hx_sI C0 hU hH h dX4_gotReply_167 (fun w H locs hH h => ?_)
      refine lv_dup hx hb dX4_gotReply_168 rfl ?_
      refine lv_iconst (v := 1) hx hb dX4_gotReply_169 (by decide) ?_
      refine lv_iload hx hb dX4_gotReply_170 (lv_at hl 0 rfl) ?_
      refine hx_sI C0 hU hH h dX4_gotReply_172 (fun w H locs hH h => ?_)
      refine lv_dup hx hb dX4_gotReply_173 rfl ?_
      refine lv_iconst (v := 2) hx hb dX4_gotReply_174 (by decide) ?_
      refine lv_iconst (v := 0) hx hb dX4_gotReply_175 (by decide) ?_
      refine hx_sI C0 hU hH h dX4_gotReply_176 (fun w H locs hH h => ?_)
      refine hx_Si C0 hU hH (As := [va_rf (some b_30)]) (wk_X4_mix l h) (va_cwS 1 hts (lw_S q1273 q1274 q71 q1275) rfl rfl rfl (by decide +kernel) ⟨Nat.le_of_ble_eq_true rfl, Nat.le_of_ble_eq_true rfl⟩) rfl hl.1 rfl (Nat.le_of_ble_eq_true rfl) dX4_gotReply_177 ⟨Nat.le_of_ble_eq_true rfl, Nat.le_of_ble_eq_true rfl⟩ (fun i_31 w H locs hH h => ?_)
      refine lv_iconst (v := 3) hx hb dX4_gotReply_180 (by decide) ?_
      refine hx_nI C0 hU hH (Nat.le_of_ble_eq_true rfl) (Nat.le_of_ble_eq_true rfl) (Nat.le_of_ble_eq_true rfl) h dX4_gotReply_181 (fun b_32 w H locs hH h => ?_)
      refine lv_dup hx hb dX4_gotReply_183 rfl ?_
      refine lv_iconst (v := 0) hx hb dX4_gotReply_184 (by decide) ?_
      refine lv_iconst (v := 5) hx hb dX4_gotReply_185 (by decide) ?_
      refine hx_sI C0 hU hH h dX4_gotReply_186 (fun w H locs hH h => ?_)
      refine lv_dup hx hb dX4_gotReply_187 rfl ?_
      refine lv_iconst (v := 1) hx hb dX4_gotReply_188 (by decide) ?_
      refine lv_iload hx hb dX4_gotReply_189 (lv_at hl 0 rfl) ?_
      refine hx_sI C0 hU hH h dX4_gotReply_191 (fun w H locs hH h => ?_)
      refine lv_dup hx hb dX4_gotReply_192 rfl ?_
      refine lv_iconst (v := 2) hx hb dX4_gotReply_193 (by decide) ?_
      refine lv_iconst (v := 1) hx hb dX4_gotReply_194 (by decide) ?_
      refine hx_sI C0 hU hH h dX4_gotReply_195 (fun w H locs hH h => ?_)
      refine hx_Si C0 hU hH (As := [va_rf (some b_32)]) (wk_X4_mix l h) (va_cwS 1 hts (lw_S q1273 q1274 q71 q1275) rfl rfl rfl (by decide +kernel) ⟨Nat.le_of_ble_eq_true rfl, Nat.le_of_ble_eq_true rfl⟩) rfl hl.1 rfl (Nat.le_of_ble_eq_true rfl) dX4_gotReply_196 ⟨Nat.le_of_ble_eq_true rfl, Nat.le_of_ble_eq_true rfl⟩ (fun i_33 w H locs hH h => ?_)
      refine lv_iconst (v := 1) hx hb dX4_gotReply_199 (by decide) ?_
      obtain ⟨ho, h⟩ := h
      refine hx_Vv C0 hU hH (As := [.int x1, .int i_4, .int (1 : Int32), .int i_2, .int i_1, .int i_31, .int i_33, .int (1 : Int32)]) (wk_X4_make l h) (cwV 8 hts (lw_V q1310 q1312 qs50 q71 q1313) rfl rfl rfl (by decide +kernel) ⟨Nat.le_of_ble_eq_true rfl, Nat.le_of_ble_eq_true rfl⟩) (hx_recv hU hH (ci := 3) rfl ho) rfl hl.1 rfl (Nat.le_of_ble_eq_true rfl) dX4_gotReply_200 ⟨Nat.le_of_ble_eq_true rfl, Nat.le_of_ble_eq_true rfl⟩ (fun w H locs hH h => ?_)
      refine hx_aload_n C0 dX4_gotReply_203 rfl (lv_at hl 6 rfl) ?_
      refine hx_gR C0 hU hH (ci := 3) rfl in_X4 19 (by decide) q1090 (fun _ h9 => h9) h dX4_gotReply_204 (fun r_34 h => ?_)
      refine lv_iload_n hx hb dX4_gotReply_207 rfl (lv_at hl 7 rfl) ?_
      obtain ⟨b_35, rfl, h9⟩ := h
      have h := h9
      clear h9
      refine hx_aR C0 hU hH h dX4_gotReply_208 (fun r_36 h => ?_)
      refine lv_iload hx hb dX4_gotReply_209 (lv_at hl 2 rfl) ?_
      obtain ⟨b_37, rfl, h9⟩ := h
      have h := h9
      clear h9
      refine hx_aI C0 hU hH h dX4_gotReply_211 (fun i_38 h => ?_)
      refine lv_if_ne hx hb dX4_gotReply_212 (tgt := 228) (by decide) (fun c_39 => ?_) (fun c_39 => ?_)
      · have h := h.2 c_39
        refine hx_aload_n C0 dX4_gotReply_228 rfl (lv_at hl 6 rfl) ?_
        refine lv_iload_n hx hb dX4_gotReply_229 rfl (lv_at hl 7 rfl) ?_
        refine lv_iload hx hb dX4_gotReply_230 (lv_at hl 2 rfl) ?_
        obtain ⟨ho, h⟩ := h
        refine hx_Vv C0 hU hH (As := [.int x1, .int i_4]) (wk_X4_sendWaiting l h) (cwV 2 hts (lw_V q1326 q1328 qs54 q71 q1329) rfl rfl rfl (by decide +kernel) ⟨Nat.le_of_ble_eq_true rfl, Nat.le_of_ble_eq_true rfl⟩) (hx_recv hU hH (ci := 3) rfl ho) rfl hl.1 rfl (Nat.le_of_ble_eq_true rfl) dX4_gotReply_232 ⟨Nat.le_of_ble_eq_true rfl, Nat.le_of_ble_eq_true rfl⟩ (fun w H locs hH h => ?_)
        refine lv_iconst (v := 3) hx hb dX4_gotReply_235 (by decide) ?_
        exact hx_reti C0 hH hr hlocks h (Nat.le_of_ble_eq_true rfl) (Nat.le_of_ble_eq_true rfl) dX4_gotReply_236
      · have h := h.1 c_39
        refine hx_aload_n C0 dX4_gotReply_215 rfl (lv_at hl 6 rfl) ?_
        refine lv_iload_n hx hb dX4_gotReply_216 rfl (lv_at hl 7 rfl) ?_
        refine lv_iload hx hb dX4_gotReply_217 (lv_at hl 2 rfl) ?_
        refine lv_iconst (v := -1) hx hb dX4_gotReply_219 (by decide) ?_
        refine lv_iconst (v := -1) hx hb dX4_gotReply_220 (by decide) ?_
        refine lv_iconst (v := -1) hx hb dX4_gotReply_221 (by decide) ?_
        obtain ⟨ho, h⟩ := h
        refine hx_Vv C0 hU hH (As := [.int x1, .int i_4, .int (-1 : Int32), .int (-1 : Int32), .int (-1 : Int32)]) (wk_X4_data l h) (cwV 5 hts (lw_V q1224 q1226 qs40 q71 q1227) rfl rfl rfl (by decide +kernel) ⟨Nat.le_of_ble_eq_true rfl, Nat.le_of_ble_eq_true rfl⟩) (hx_recv hU hH (ci := 3) rfl ho) rfl hl.1 rfl (Nat.le_of_ble_eq_true rfl) dX4_gotReply_222 ⟨Nat.le_of_ble_eq_true rfl, Nat.le_of_ble_eq_true rfl⟩ (fun w H locs hH h => ?_)
        refine lv_goto hx hb dX4_gotReply_225 (tgt := 235) (by decide) ?_
        refine lv_iconst (v := 3) hx hb dX4_gotReply_235 (by decide) ?_
        exact hx_reti C0 hH hr hlocks h (Nat.le_of_ble_eq_true rfl) (Nat.le_of_ble_eq_true rfl) dX4_gotReply_236
    · have h := h.2 c_20
      refine lv_bipush (v := -2) hx hb dX4_gotReply_121 (by decide) ?_
      exact hx_reti C0 hH hr hlocks h (Nat.le_of_ble_eq_true rfl) (Nat.le_of_ble_eq_true rfl) dX4_gotReply_123
  · have h := h.1 c_5
    refine lv_iconst (v := -1) hx hb dX4_gotReply_29 (by decide) ?_
    exact hx_reti C0 hH hr hlocks h (Nat.le_of_ble_eq_true rfl) (Nat.le_of_ble_eq_true rfl) dX4_gotReply_30
def wp_X4_got_b23 (K : Hp → Int32 → Prop) (bk4 : Hp → Nat → Nat → Int32 → Int32 → Prop) (w : Hp) (a0 : Nat) (a1 : Nat) (x2 : Int32) (x3 : Int32) : Prop :=
  nm (x3 + 1) fun i_1 => bk4 w a0 a1 x2 i_1
def wp_X4_got_s4 (K : Hp → Int32 → Prop)  (bk4 : Hp → Nat → Nat → Int32 → Int32 → Prop) (w : Hp) (a0 : Nat) (a1 : Nat) (x2 : Int32) (x3 : Int32) : Prop :=
  br ((3 : Int32) ≤ x3) (br (x2 = (-1 : Int32)) (K w (0 : Int32)) (aI w a1 (2 : Int32) fun i_3 => br (i_3 = 1) (isO w a0 3 <| wp_X4_gotHello w a0 x2 a1 fun w i_4 => K w i_4) (br (i_3 = 2) (isO w a0 3 <| wp_X4_gotReply w a0 x2 a1 fun w i_6 => K w i_6) (br (i_3 = 3) (isO w a0 3 <| wp_X4_gotCookie w a0 x2 a1 fun w i_8 => K w i_8) (isO w a0 3 <| wp_X4_gotData w a0 x2 a1 fun w i_10 => K w i_10))))) (gR w a0 3 4 fun r_11 => dR r_11 fun b_12 => aI w b_12 x3 fun i_13 => aI w a1 (1 : Int32) fun i_14 => br (i_13 = i_14) (wp_X4_got_b23 K bk4 w a0 a1 x3 x3) (wp_X4_got_b23 K bk4 w a0 a1 x2 x3))
def wp_X4_got_l4 (K : Hp → Int32 → Prop)  : ((Hp × Nat × Nat × Int32 × Int32) → Prop) → (Hp × Nat × Nat × Int32 × Int32) → Prop := fun bk q => wp_X4_got_s4 K  (fun w a0 a1 x2 x3 => bk (w, a0, a1, x2, x3)) q.1 q.2.1 q.2.2.1 q.2.2.2.1 q.2.2.2.2
def wp_X4_got_b4 (K : Hp → Int32 → Prop)  (w : Hp) (a0 : Nat) (a1 : Nat) (x2 : Int32) (x3 : Int32) : Prop := lp (wp_X4_got_l4 K ) (w, a0, a1, x2, x3)
def wp_X4_got (w : Hp) (a0 : Nat) (a1 : Nat) (K : Hp → Int32 → Prop) : Prop :=
  wp_X4_got_b4 K w a0 a1 (-1 : Int32) (0 : Int32)
abbrev rm_X4_got : Room := { frames := 5, cells := 22, slots := 264, locals := 133 }
abbrev ws9_X4_got : List Cond := ws_ yX4_got cX4_got 4 (Option.some Jvm.ClassFile.FieldType.int)
abbrev Q9_X4_got (below : List Frame) (args : Array Value) (s : State) (G : hG) (K : Hp → Int32 → Prop) : State → Prop := MQ below (hx_Qi G K) args s 22 264 (hx_A G)
set_option maxHeartbeats 4000000 in
set_option maxRecDepth 100000 in
theorem wk_X4_got (l : Launch) {G : hG} {w : Hp} {a0 : Nat} {a1 : Nat} {K : Hp → Int32 → Prop} (h : wp_X4_got w a0 a1 K) : hx_Mi l yX4_got (ws9_X4_got) rm_X4_got G w [.ref a0, .ref a1] K 22 264 := by
  refine Met.ofW (cc := cX4_got) (maxL := 4) (ret := (Option.some Jvm.ClassFile.FieldType.int)) (by decide +kernel) rfl ?_
  intro p e s m args below meth c s₁ B hml hv
  refine hx_in (own := RX4) (av := [.ref a0, .ref a1]) (vl := [(0, va_rf (some a0)), (1, va_rf (some a1))]) rfl rfl (Nat.le_of_ble_eq_true rfl) rfl B hml hv ?_
  intro C0 hU hH hr hlocks hin ls hl
  have hx := C0.1
  have hb := C0.2.1
  have hts := C0.2.2.2.2
  have L4 : ∀ (n4 : Nat) (w : Hp) (a0 : Nat) (a1 : Nat) (x2 : Int32) (x3 : Int32), lpN (wp_X4_got_l4 K ) n4 (w, a0, a1, x2, x3) → ∀ (H : Heap) (locs : List Loc) (ls : Array Slot), hx_H G w s H locs → lv_has ls 4 [(0, va_rf (some a0)), (1, va_rf (some a1)), (2, .int x2), (3, .int x3)] → W p l e (headSpec (ws9_X4_got) rm_X4_got).room s m args below meth c H locs (0) (0) (Q9_X4_got below args s G K) (F0 m 4 ls []) := by
    intro n4
    induction n4 with
    | zero => intro w a0 a1 x2 x3 h; exact h.elim
    | succ n4 ih4 =>
      intro w a0 a1 x2 x3 h H locs ls hH hl
      have h : wp_X4_got_s4 K  (fun w a0 a1 x2 x3 => lpN (wp_X4_got_l4 K ) n4 (w, a0, a1, x2, x3)) w a0 a1 x2 x3 := h
      have b23 : ∀ (w : Hp) (a0 : Nat) (a1 : Nat) (x2 : Int32) (x3 : Int32), wp_X4_got_b23 K (fun w a0 a1 x2 x3 => lpN (wp_X4_got_l4 K ) n4 (w, a0, a1, x2, x3)) w a0 a1 x2 x3 → ∀ (H : Heap) (locs : List Loc) (ls : Array Slot), hx_H G w s H locs → lv_has ls 4 [(0, va_rf (some a0)), (1, va_rf (some a1)), (2, .int x2), (3, .int x3)] → W p l e (headSpec (ws9_X4_got) rm_X4_got).room s m args below meth c H locs (0) (0) (Q9_X4_got below args s G K) (F0 m 23 ls []) := by
        intro w a0 a1 x2 x3 h H locs ls hH hl
        obtain ⟨i_1, ei_1⟩ : ∃ z, z = x3 + 1 := ⟨_, rfl⟩
        have h := h i_1 ei_1
        refine lv_iinc (k := 3) hx hb dX4_got_23 hl rfl (v := i_1) (by rw [ei_1]; rfl) (by decide) (lv' := [(3, .int i_1), (0, va_rf (some a0)), (1, va_rf (some a1)), (2, .int x2)]) rfl (fun ls hl => ?_)
        refine lv_goto hx hb dX4_got_26 (tgt := 4) (by decide) ?_
        refine W.widen (k := 0) (n := 0) (Nat.le_of_ble_eq_true rfl) (Nat.le_of_ble_eq_true rfl) ?_
        exact ih4 _ _ _ _ _ h _ _ _ hH (lv_sub hl [1, 2, 3, 0] rfl)
      refine lv_iload_n hx hb dX4_got_4 rfl (lv_at hl 3 rfl) ?_
      refine lv_iconst (v := 3) hx hb dX4_got_5 (by decide) ?_
      refine lv_icmp_ge hx hb dX4_got_6 (tgt := 29) (by decide) (fun c_1 => ?_) (fun c_1 => ?_)
      · have h := h.1 c_1
        refine lv_iload_n hx hb dX4_got_29 rfl (lv_at hl 2 rfl) ?_
        refine lv_iconst (v := -1) hx hb dX4_got_30 (by decide) ?_
        refine lv_icmp_ne hx hb dX4_got_31 (tgt := 36) (by decide) (fun c_2 => ?_) (fun c_2 => ?_)
        · have h := h.2 c_2
          refine hx_aload_n C0 dX4_got_36 rfl (lv_at hl 1 rfl) ?_
          refine lv_iconst (v := 2) hx hb dX4_got_37 (by decide) ?_
          refine hx_aI C0 hU hH h dX4_got_38 (fun i_3 h => ?_)
          by_cases c_5 : i_3 = 1
          · have h := h.1 c_5
            have zc_5 : (i_3).toInt = 1 := by rw [c_5]; rfl
            refine lv_tableIn hx hb dX4_got_39 (by rw [zc_5]; decide) (by rw [zc_5]; decide) (by rw [zc_5]; rfl) (tgt := 64) (by decide) ?_
            refine hx_aload_n C0 dX4_got_64 rfl (lv_at hl 0 rfl) ?_
            refine lv_iload_n hx hb dX4_got_65 rfl (lv_at hl 2 rfl) ?_
            refine hx_aload_n C0 dX4_got_66 rfl (lv_at hl 1 rfl) ?_
            obtain ⟨ho, h⟩ := h
            refine hx_Vi C0 hU hH (As := [.int x2, va_rf (some a1)]) (wk_X4_gotHello l h) (cwV 2 hts (lw_V q1306 q1308 qs49 q71 q1309) rfl rfl rfl (by decide +kernel) ⟨Nat.le_of_ble_eq_true rfl, Nat.le_of_ble_eq_true rfl⟩) (hx_recv hU hH (ci := 3) rfl ho) rfl hl.1 rfl (Nat.le_of_ble_eq_true rfl) dX4_got_67 ⟨Nat.le_of_ble_eq_true rfl, Nat.le_of_ble_eq_true rfl⟩ (fun i_4 w H locs hH h => ?_)
            exact hx_reti C0 hH hr hlocks h (Nat.le_of_ble_eq_true rfl) (Nat.le_of_ble_eq_true rfl) dX4_got_70
          have h := h.2 c_5
          have nc_5 : ¬ (i_3).toInt = 1 := hx_ni c_5 rfl
          by_cases c_7 : i_3 = 2
          · have h := h.1 c_7
            have zc_7 : (i_3).toInt = 2 := by rw [c_7]; rfl
            refine lv_tableIn hx hb dX4_got_39 (by rw [zc_7]; decide) (by rw [zc_7]; decide) (by rw [zc_7]; rfl) (tgt := 71) (by decide) ?_
            refine hx_aload_n C0 dX4_got_71 rfl (lv_at hl 0 rfl) ?_
            refine lv_iload_n hx hb dX4_got_72 rfl (lv_at hl 2 rfl) ?_
            refine hx_aload_n C0 dX4_got_73 rfl (lv_at hl 1 rfl) ?_
            obtain ⟨ho, h⟩ := h
            refine hx_Vi C0 hU hH (As := [.int x2, va_rf (some a1)]) (wk_X4_gotReply l h) (cwV 2 hts (lw_V q1314 q1316 qs51 q71 q1317) rfl rfl rfl (by decide +kernel) ⟨Nat.le_of_ble_eq_true rfl, Nat.le_of_ble_eq_true rfl⟩) (hx_recv hU hH (ci := 3) rfl ho) rfl hl.1 rfl (Nat.le_of_ble_eq_true rfl) dX4_got_74 ⟨Nat.le_of_ble_eq_true rfl, Nat.le_of_ble_eq_true rfl⟩ (fun i_6 w H locs hH h => ?_)
            exact hx_reti C0 hH hr hlocks h (Nat.le_of_ble_eq_true rfl) (Nat.le_of_ble_eq_true rfl) dX4_got_77
          have h := h.2 c_7
          have nc_7 : ¬ (i_3).toInt = 2 := hx_ni c_7 rfl
          by_cases c_9 : i_3 = 3
          · have h := h.1 c_9
            have zc_9 : (i_3).toInt = 3 := by rw [c_9]; rfl
            refine lv_tableIn hx hb dX4_got_39 (by rw [zc_9]; decide) (by rw [zc_9]; decide) (by rw [zc_9]; rfl) (tgt := 78) (by decide) ?_
            refine hx_aload_n C0 dX4_got_78 rfl (lv_at hl 0 rfl) ?_
            refine lv_iload_n hx hb dX4_got_79 rfl (lv_at hl 2 rfl) ?_
            refine hx_aload_n C0 dX4_got_80 rfl (lv_at hl 1 rfl) ?_
            obtain ⟨ho, h⟩ := h
            refine hx_Vi C0 hU hH (As := [.int x2, va_rf (some a1)]) (wk_X4_gotCookie l h) (cwV 2 hts (lw_V q1330 q1332 qs55 q71 q1333) rfl rfl rfl (by decide +kernel) ⟨Nat.le_of_ble_eq_true rfl, Nat.le_of_ble_eq_true rfl⟩) (hx_recv hU hH (ci := 3) rfl ho) rfl hl.1 rfl (Nat.le_of_ble_eq_true rfl) dX4_got_81 ⟨Nat.le_of_ble_eq_true rfl, Nat.le_of_ble_eq_true rfl⟩ (fun i_8 w H locs hH h => ?_)
            exact hx_reti C0 hH hr hlocks h (Nat.le_of_ble_eq_true rfl) (Nat.le_of_ble_eq_true rfl) dX4_got_84
          have h := h.2 c_9
          have nc_9 : ¬ (i_3).toInt = 3 := hx_ni c_9 rfl
          refine lv_tableOut hx hb dX4_got_39 (by omega) (tgt := 85) (by decide) ?_
          refine hx_aload_n C0 dX4_got_85 rfl (lv_at hl 0 rfl) ?_
          refine lv_iload_n hx hb dX4_got_86 rfl (lv_at hl 2 rfl) ?_
          refine hx_aload_n C0 dX4_got_87 rfl (lv_at hl 1 rfl) ?_
          obtain ⟨ho, h⟩ := h
          refine hx_Vi C0 hU hH (As := [.int x2, va_rf (some a1)]) (wk_X4_gotData l h) (cwV 2 hts (lw_V q1334 q1336 qs56 q71 q1337) rfl rfl rfl (by decide +kernel) ⟨Nat.le_of_ble_eq_true rfl, Nat.le_of_ble_eq_true rfl⟩) (hx_recv hU hH (ci := 3) rfl ho) rfl hl.1 rfl (Nat.le_of_ble_eq_true rfl) dX4_got_88 ⟨Nat.le_of_ble_eq_true rfl, Nat.le_of_ble_eq_true rfl⟩ (fun i_10 w H locs hH h => ?_)
          exact hx_reti C0 hH hr hlocks h (Nat.le_of_ble_eq_true rfl) (Nat.le_of_ble_eq_true rfl) dX4_got_91
        · have h := h.1 c_2
          refine lv_iconst (v := 0) hx hb dX4_got_34 (by decide) ?_
          exact hx_reti C0 hH hr hlocks h (Nat.le_of_ble_eq_true rfl) (Nat.le_of_ble_eq_true rfl) dX4_got_35
      · have h := h.2 c_1
        refine hx_aload_n C0 dX4_got_9 rfl (lv_at hl 0 rfl) ?_
        refine hx_gR C0 hU hH (ci := 3) rfl in_X4 4 (by decide) q1075 (fun _ h9 => h9) h dX4_got_10 (fun r_11 h => ?_)
        refine lv_iload_n hx hb dX4_got_13 rfl (lv_at hl 3 rfl) ?_
        obtain ⟨b_12, rfl, h9⟩ := h
        have h := h9
        clear h9
        refine hx_aI C0 hU hH h dX4_got_14 (fun i_13 h => ?_)
        refine hx_aload_n C0 dX4_got_15 rfl (lv_at hl 1 rfl) ?_
        refine lv_iconst (v := 1) hx hb dX4_got_16 (by decide) ?_
        refine hx_aI C0 hU hH h dX4_got_17 (fun i_14 h => ?_)
        refine lv_icmp_ne hx hb dX4_got_18 (tgt := 23) (by decide) (fun c_15 => ?_) (fun c_15 => ?_)
        · have h := h.2 c_15
          refine W.widen (k := 0) (n := 0) (Nat.le_of_ble_eq_true rfl) (Nat.le_of_ble_eq_true rfl) ?_
          exact b23 _ _ _ _ _ h _ _ _ hH (lv_sub hl [0, 1, 2, 3] rfl)
        · have h := h.1 c_15
          refine lv_iload_n hx hb dX4_got_21 rfl (lv_at hl 3 rfl) ?_
          refine lv_istore_n hx hb dX4_got_22 rfl hl (by decide) (lv' := [(2, .int x3), (0, va_rf (some a0)), (1, va_rf (some a1)), (3, .int x3)]) rfl (fun ls hl => ?_)
          refine W.widen (k := 0) (n := 0) (Nat.le_of_ble_eq_true rfl) (Nat.le_of_ble_eq_true rfl) ?_
          exact b23 _ _ _ _ _ h _ _ _ hH (lv_sub hl [1, 2, 0, 3] rfl)
  refine lv_iconst (v := -1) hx hb dX4_got_0 (by decide) ?_
  refine lv_istore_n hx hb dX4_got_1 rfl hl (by decide) (lv' := [(2, .int (-1 : Int32)), (0, va_rf (some a0)), (1, va_rf (some a1))]) rfl (fun ls hl => ?_)
  refine lv_iconst (v := 0) hx hb dX4_got_2 (by decide) ?_
  refine lv_istore_n hx hb dX4_got_3 rfl hl (by decide) (lv' := [(3, .int (0 : Int32)), (2, .int (-1 : Int32)), (0, va_rf (some a0)), (1, va_rf (some a1))]) rfl (fun ls hl => ?_)
  obtain ⟨n9, h⟩ := h
  refine W.widen (k := 0) (n := 0) (Nat.le_of_ble_eq_true rfl) (Nat.le_of_ble_eq_true rfl) ?_
  exact L4 n9 _ _ _ _ _ h _ _ _ hH (lv_sub hl [2, 3, 1, 0] rfl)
def wp_X4_isLetter (w : Hp) (a0 : Nat) (x1 : Int32) (K : Hp → Int32 → Prop) : Prop :=
  gI w a0 3 24 fun i_1 => wp_X4_isBetween w (x1.toInt64) (0 : Int64) (Int32.toInt64 (i_1 - (1 : Int32))) fun w i_2 => gd (i_2 = 0 ∨ i_2 = 1) <| K w i_2
abbrev rm_X4_isLetter : Room := { frames := 1, cells := 0, slots := 0, locals := 25 }
abbrev ws9_X4_isLetter : List Cond := ws_ yX4_isLetter cX4_isLetter 2 (Option.some Jvm.ClassFile.FieldType.boolean)
abbrev Q9_X4_isLetter (below : List Frame) (args : Array Value) (s : State) (G : hG) (K : Hp → Int32 → Prop) : State → Prop := MQ below (hx_Qi G K) args s 0 0 (hx_A G)
set_option maxHeartbeats 4000000 in
set_option maxRecDepth 100000 in
theorem wk_X4_isLetter (l : Launch) {G : hG} {w : Hp} {a0 : Nat} {x1 : Int32} {K : Hp → Int32 → Prop} (h : wp_X4_isLetter w a0 x1 K) : hx_Mi l yX4_isLetter (ws9_X4_isLetter) rm_X4_isLetter G w [.ref a0, .int x1] K 0 0 := by
  refine Met.ofW (cc := cX4_isLetter) (maxL := 2) (ret := (Option.some Jvm.ClassFile.FieldType.boolean)) (by decide +kernel) rfl ?_
  intro p e s m args below meth c s₁ B hml hv
  refine hx_in (own := RX4) (av := [.ref a0, .int x1]) (vl := [(0, va_rf (some a0)), (1, .int x1)]) rfl rfl (Nat.le_of_ble_eq_true rfl) rfl B hml hv ?_
  intro C0 hU hH hr hlocks hin ls hl
  have hx := C0.1
  have hb := C0.2.1
  have hts := C0.2.2.2.2
  refine lv_iload_n hx hb dX4_isLetter_0 rfl (lv_at hl 1 rfl) ?_
  refine lv_i2l hx hb dX4_isLetter_1 rfl ?_
  refine lv_lconst (v := 0) hx hb dX4_isLetter_2 (by decide) ?_
  refine hx_aload_n C0 dX4_isLetter_3 rfl (lv_at hl 0 rfl) ?_
  refine hx_gI C0 hU hH (ci := 3) rfl in_X4 24 (by decide) q1095 (fun _ h9 => h9) h dX4_isLetter_4 (fun i_1 h => ?_)
  refine lv_iconst (v := 1) hx hb dX4_isLetter_7 (by decide) ?_
  refine lv_isub hx hb dX4_isLetter_8 ?_
  refine lv_i2l hx hb dX4_isLetter_9 rfl ?_
  refine hx_Si C0 hU hH (As := [.long (x1.toInt64), .long (0 : Int64), .long (Int32.toInt64 (i_1 - (1 : Int32)))]) (wk_X4_isBetween l h) (va_cwS 3 hts (lw_S q1162 q1163 q71 q1164) rfl rfl rfl (by decide +kernel) ⟨Nat.le_of_ble_eq_true rfl, Nat.le_of_ble_eq_true rfl⟩) rfl hl.1 rfl (Nat.le_of_ble_eq_true rfl) dX4_isLetter_10 ⟨Nat.le_of_ble_eq_true rfl, Nat.le_of_ble_eq_true rfl⟩ (fun i_2 w H locs hH h => ?_)
  obtain ⟨hz, h⟩ := h
  exact hx_retz C0 hH hr hlocks hz h (Nat.le_of_ble_eq_true rfl) (Nat.le_of_ble_eq_true rfl) dX4_isLetter_13
def wp_X4_take_s2 (K : Hp → Prop)  (bk2 : Hp → Nat → Int32 → Prop) (w : Hp) (a0 : Nat) (x2 : Int32) : Prop :=
  gI w a0 3 24 fun i_1 => br ((i_1 - (1 : Int32)) ≤ x2) (gI w a0 3 24 fun i_3 => pV w a0 3 24 (.int (i_3 - (1 : Int32))) fun w => K w) (gR w a0 3 23 fun r_4 => gR w a0 3 23 fun r_5 => dR r_5 fun b_6 => aR w b_6 (x2 + (1 : Int32)) fun r_7 => dR r_4 fun b_8 => sR w b_8 x2 r_7 fun w => nm (x2 + 1) fun i_9 => bk2 w a0 i_9)
def wp_X4_take_l2 (K : Hp → Prop)  : ((Hp × Nat × Int32) → Prop) → (Hp × Nat × Int32) → Prop := fun bk q => wp_X4_take_s2 K  (fun w a0 x2 => bk (w, a0, x2)) q.1 q.2.1 q.2.2
def wp_X4_take_b2 (K : Hp → Prop)  (w : Hp) (a0 : Nat) (x2 : Int32) : Prop := lp (wp_X4_take_l2 K ) (w, a0, x2)
def wp_X4_take (w : Hp) (a0 : Nat) (x1 : Int32) (K : Hp → Prop) : Prop :=
  wp_X4_take_b2 K w a0 x1
abbrev rm_X4_take : Room := { frames := 0, cells := 0, slots := 0, locals := 0 }
abbrev ws9_X4_take : List Cond := ws_ yX4_take cX4_take 3 none
abbrev Q9_X4_take (below : List Frame) (args : Array Value) (s : State) (G : hG) (K : Hp → Prop) : State → Prop := MQ below (hx_Qv G K) args s 0 0 (hx_A G)
set_option maxHeartbeats 4000000 in
set_option maxRecDepth 100000 in
theorem wk_X4_take (l : Launch) {G : hG} {w : Hp} {a0 : Nat} {x1 : Int32} {K : Hp → Prop} (h : wp_X4_take w a0 x1 K) : hx_Mv l yX4_take (ws9_X4_take) rm_X4_take G w [.ref a0, .int x1] K 0 0 := by
  refine Met.ofW (cc := cX4_take) (maxL := 3) (ret := none) (by decide +kernel) rfl ?_
  intro p e s m args below meth c s₁ B hml hv
  refine hx_in (own := RX4) (av := [.ref a0, .int x1]) (vl := [(0, va_rf (some a0)), (1, .int x1)]) rfl rfl (Nat.le_of_ble_eq_true rfl) rfl B hml hv ?_
  intro C0 hU hH hr hlocks hin ls hl
  have hx := C0.1
  have hb := C0.2.1
  have hts := C0.2.2.2.2
  have L2 : ∀ (n2 : Nat) (w : Hp) (a0 : Nat) (x2 : Int32), lpN (wp_X4_take_l2 K ) n2 (w, a0, x2) → ∀ (H : Heap) (locs : List Loc) (ls : Array Slot), hx_H G w s H locs → lv_has ls 3 [(0, va_rf (some a0)), (2, .int x2)] → W p l e (headSpec (ws9_X4_take) rm_X4_take).room s m args below meth c H locs (0) (0) (Q9_X4_take below args s G K) (F0 m 2 ls []) := by
    intro n2
    induction n2 with
    | zero => intro w a0 x2 h; exact h.elim
    | succ n2 ih2 =>
      intro w a0 x2 h H locs ls hH hl
      have h : wp_X4_take_s2 K  (fun w a0 x2 => lpN (wp_X4_take_l2 K ) n2 (w, a0, x2)) w a0 x2 := h
      refine lv_iload_n hx hb dX4_take_2 rfl (lv_at hl 1 rfl) ?_
      refine hx_aload_n C0 dX4_take_3 rfl (lv_at hl 0 rfl) ?_
      refine hx_gI C0 hU hH (ci := 3) rfl in_X4 24 (by decide) q1095 (fun _ h9 => h9) h dX4_take_4 (fun i_1 h => ?_)
      refine lv_iconst (v := 1) hx hb dX4_take_7 (by decide) ?_
      refine lv_isub hx hb dX4_take_8 ?_
      refine lv_icmp_ge hx hb dX4_take_9 (tgt := 32) (by decide) (fun c_2 => ?_) (fun c_2 => ?_)
      · have h := h.1 c_2
        refine hx_aload_n C0 dX4_take_32 rfl (lv_at hl 0 rfl) ?_
        refine lv_dup hx hb dX4_take_33 rfl ?_
        refine hx_gI C0 hU hH (ci := 3) rfl in_X4 24 (by decide) q1095 (fun _ h9 => h9) h dX4_take_34 (fun i_3 h => ?_)
        refine lv_iconst (v := 1) hx hb dX4_take_37 (by decide) ?_
        refine lv_isub hx hb dX4_take_38 ?_
        refine hx_pV C0 hU hH (ci := 3) rfl in_X4 tyX4 tyX4_ok nmX4 24 (by decide) q1095 (fun _ h9 => h9) (Or.inl rfl) rfl rfl h dX4_take_39 (fun w H locs hH h => ?_)
        exact hx_retv C0 hH hr hlocks h (Nat.le_of_ble_eq_true rfl) (Nat.le_of_ble_eq_true rfl) dX4_take_42
      · have h := h.2 c_2
        refine hx_aload_n C0 dX4_take_12 rfl (lv_at hl 0 rfl) ?_
        refine hx_gR C0 hU hH (ci := 3) rfl in_X4 23 (by decide) q1094 (fun _ h9 => h9) h dX4_take_13 (fun r_4 h => ?_)
        refine lv_iload_n hx hb dX4_take_16 rfl (lv_at hl 1 rfl) ?_
        refine hx_aload_n C0 dX4_take_17 rfl (lv_at hl 0 rfl) ?_
        refine hx_gR C0 hU hH (ci := 3) rfl in_X4 23 (by decide) q1094 (fun _ h9 => h9) h dX4_take_18 (fun r_5 h => ?_)
        refine lv_iload_n hx hb dX4_take_21 rfl (lv_at hl 1 rfl) ?_
        refine lv_iconst (v := 1) hx hb dX4_take_22 (by decide) ?_
        refine lv_iadd hx hb dX4_take_23 ?_
        obtain ⟨b_6, rfl, h9⟩ := h
        have h := h9
        clear h9
        refine hx_aR C0 hU hH h dX4_take_24 (fun r_7 h => ?_)
        obtain ⟨b_8, rfl, h9⟩ := h
        have h := h9
        clear h9
        refine hx_sR C0 hU hH h dX4_take_25 (fun w H locs hH h => ?_)
        obtain ⟨i_9, ei_9⟩ : ∃ z, z = x2 + 1 := ⟨_, rfl⟩
        have h := h i_9 ei_9
        refine lv_iinc (k := 1) hx hb dX4_take_26 hl rfl (v := i_9) (by rw [ei_9]; rfl) (by decide) (lv' := [(2, .int i_9), (0, va_rf (some a0))]) rfl (fun ls hl => ?_)
        refine lv_goto hx hb dX4_take_29 (tgt := 2) (by decide) ?_
        refine W.widen (k := 0) (n := 0) (Nat.le_of_ble_eq_true rfl) (Nat.le_of_ble_eq_true rfl) ?_
        exact ih2 _ _ _ h _ _ _ hH (lv_sub hl [1, 0] rfl)
  refine lv_iload_n hx hb dX4_take_0 rfl (lv_at hl 1 rfl) ?_
  refine lv_istore_n hx hb dX4_take_1 rfl hl (by decide) (lv' := [(2, .int x1), (0, va_rf (some a0)), (1, .int x1)]) rfl (fun ls hl => ?_)
  obtain ⟨n9, h⟩ := h
  refine W.widen (k := 0) (n := 0) (Nat.le_of_ble_eq_true rfl) (Nat.le_of_ble_eq_true rfl) ?_
  exact L2 n9 _ _ _ h _ _ _ hH (lv_sub hl [1, 0] rfl)
def wp_X4_deliver_b14 (K : Hp → Int32 → Prop)  (w : Hp) (a0 : Nat) (x1 : Int32) (t0 : Int32) (at1 : Nat) : Prop :=
  isO w at1 3 <| wp_X4_isWrong w at1 t0 fun w i_1 => br (i_1 = 0) (gR w a0 3 23 fun r_3 => dR r_3 fun b_4 => aR w b_4 x1 fun r_5 => isO w a0 3 <| wp_X4_take w a0 x1 fun w => dR r_5 fun b_6 => isO w a0 3 <| wp_X4_got w a0 b_6 fun w i_7 => gR w a0 3 7 fun r_8 => dR r_8 fun b_9 => aI w b_9 (i_7 + (7 : Int32)) fun i_10 => sI w b_9 (i_7 + (7 : Int32)) (i_10 + (1 : Int32)) fun w => gI w a0 3 3 fun i_11 => pV w a0 3 3 (.int (i_11 + (1 : Int32))) fun w => K w i_7) (K w (0 : Int32))
def wp_X4_deliver (w : Hp) (a0 : Nat) (x1 : Int32) (K : Hp → Int32 → Prop) : Prop :=
  isO w a0 3 <| wp_X4_isLetter w a0 x1 fun w i_1 => br (i_1 = 0) (wp_X4_deliver_b14 K w a0 x1 (1 : Int32) a0) (wp_X4_deliver_b14 K w a0 x1 (0 : Int32) a0)
abbrev rm_X4_deliver : Room := { frames := 6, cells := 22, slots := 264, locals := 156 }
abbrev ws9_X4_deliver : List Cond := ws_ yX4_deliver cX4_deliver 4 (Option.some Jvm.ClassFile.FieldType.int)
abbrev Q9_X4_deliver (below : List Frame) (args : Array Value) (s : State) (G : hG) (K : Hp → Int32 → Prop) : State → Prop := MQ below (hx_Qi G K) args s 22 264 (hx_A G)
set_option maxHeartbeats 4000000 in
set_option maxRecDepth 100000 in
theorem wk_X4_deliver (l : Launch) {G : hG} {w : Hp} {a0 : Nat} {x1 : Int32} {K : Hp → Int32 → Prop} (h : wp_X4_deliver w a0 x1 K) : hx_Mi l yX4_deliver (ws9_X4_deliver) rm_X4_deliver G w [.ref a0, .int x1] K 22 264 := by
  refine Met.ofW (cc := cX4_deliver) (maxL := 4) (ret := (Option.some Jvm.ClassFile.FieldType.int)) (by decide +kernel) rfl ?_
  intro p e s m args below meth c s₁ B hml hv
  refine hx_in (own := RX4) (av := [.ref a0, .int x1]) (vl := [(0, va_rf (some a0)), (1, .int x1)]) rfl rfl (Nat.le_of_ble_eq_true rfl) rfl B hml hv ?_
  intro C0 hU hH hr hlocks hin ls hl
  have hx := C0.1
  have hb := C0.2.1
  have hts := C0.2.2.2.2
  have b14 : ∀ (w : Hp) (a0 : Nat) (x1 : Int32) (t0 : Int32) (at1 : Nat), wp_X4_deliver_b14 K  w a0 x1 t0 at1 → ∀ (H : Heap) (locs : List Loc) (ls : Array Slot), hx_H G w s H locs → lv_has ls 4 [(0, va_rf (some a0)), (1, .int x1)] → W p l e (headSpec (ws9_X4_deliver) rm_X4_deliver).room s m args below meth c H locs (0) (0) (Q9_X4_deliver below args s G K) (F0 m 14 ls [.int t0, va_rf (some at1)]) := by
    intro w a0 x1 t0 at1 h H locs ls hH hl
    obtain ⟨ho, h⟩ := h
    refine hx_Vi C0 hU hH (As := [.int t0]) (wk_X4_isWrong l h) (cwV 1 hts (lw_V q1166 q1168 qs34 q71 q1169) rfl rfl rfl (by decide +kernel) ⟨Nat.le_of_ble_eq_true rfl, Nat.le_of_ble_eq_true rfl⟩) (hx_recv hU hH (ci := 3) rfl ho) rfl hl.1 rfl (Nat.le_of_ble_eq_true rfl) dX4_deliver_14 ⟨Nat.le_of_ble_eq_true rfl, Nat.le_of_ble_eq_true rfl⟩ (fun i_1 w H locs hH h => ?_)
    refine lv_if_eq hx hb dX4_deliver_17 (tgt := 22) (by decide) (fun c_2 => ?_) (fun c_2 => ?_)
    · have h := h.1 c_2
      refine hx_aload_n C0 dX4_deliver_22 rfl (lv_at hl 0 rfl) ?_
      refine hx_gR C0 hU hH (ci := 3) rfl in_X4 23 (by decide) q1094 (fun _ h9 => h9) h dX4_deliver_23 (fun r_3 h => ?_)
      refine lv_iload_n hx hb dX4_deliver_26 rfl (lv_at hl 1 rfl) ?_
      obtain ⟨b_4, rfl, h9⟩ := h
      have h := h9
      clear h9
      refine hx_aR C0 hU hH h dX4_deliver_27 (fun r_5 h => ?_)
      refine hx_astore_n C0 dX4_deliver_28 rfl hl (by decide) (lv' := [(2, va_rf r_5), (0, va_rf (some a0)), (1, .int x1)]) rfl (fun ls hl => ?_)
      refine hx_aload_n C0 dX4_deliver_29 rfl (lv_at hl 1 rfl) ?_
      refine lv_iload_n hx hb dX4_deliver_30 rfl (lv_at hl 2 rfl) ?_
      obtain ⟨ho, h⟩ := h
      refine hx_Vv C0 hU hH (As := [.int x1]) (wk_X4_take l h) (cwV 1 hts (lw_V q1298 q1300 qs47 q71 q1301) rfl rfl rfl (by decide +kernel) ⟨Nat.le_of_ble_eq_true rfl, Nat.le_of_ble_eq_true rfl⟩) (hx_recv hU hH (ci := 3) rfl ho) rfl hl.1 rfl (Nat.le_of_ble_eq_true rfl) dX4_deliver_31 ⟨Nat.le_of_ble_eq_true rfl, Nat.le_of_ble_eq_true rfl⟩ (fun w H locs hH h => ?_)
      refine hx_aload_n C0 dX4_deliver_34 rfl (lv_at hl 1 rfl) ?_
      refine hx_aload_n C0 dX4_deliver_35 rfl (lv_at hl 0 rfl) ?_
      obtain ⟨b_6, rfl, h9⟩ := h
      have h := h9
      clear h9
      obtain ⟨ho, h⟩ := h
      refine hx_Vi C0 hU hH (As := [va_rf (some b_6)]) (wk_X4_got l h) (cwV 1 hts (lw_V q1302 q1304 qs48 q71 q1305) rfl rfl rfl (by decide +kernel) ⟨Nat.le_of_ble_eq_true rfl, Nat.le_of_ble_eq_true rfl⟩) (hx_recv hU hH (ci := 3) rfl ho) rfl hl.1 rfl (Nat.le_of_ble_eq_true rfl) dX4_deliver_36 ⟨Nat.le_of_ble_eq_true rfl, Nat.le_of_ble_eq_true rfl⟩ (fun i_7 w H locs hH h => ?_)
      refine lv_istore_n hx hb dX4_deliver_39 rfl hl (by decide) (lv' := [(3, .int i_7), (2, va_rf (some b_6)), (0, va_rf (some a0)), (1, .int x1)]) rfl (fun ls hl => ?_)
      refine hx_aload_n C0 dX4_deliver_40 rfl (lv_at hl 2 rfl) ?_
      refine hx_gR C0 hU hH (ci := 3) rfl in_X4 7 (by decide) q1078 (fun _ h9 => h9) h dX4_deliver_41 (fun r_8 h => ?_)
      refine lv_iload_n hx hb dX4_deliver_44 rfl (lv_at hl 0 rfl) ?_
      refine lv_bipush (v := 7) hx hb dX4_deliver_45 (by decide) ?_
      refine lv_iadd hx hb dX4_deliver_47 ?_
      refine lv_dup2_11 hx hb dX4_deliver_48 rfl (hx_rfc _) ?_
      obtain ⟨b_9, rfl, h9⟩ := h
      have h := h9
      clear h9
      refine hx_aI C0 hU hH h dX4_deliver_49 (fun i_10 h => ?_)
      refine lv_iconst (v := 1) hx hb dX4_deliver_50 (by decide) ?_
      refine lv_iadd hx hb dX4_deliver_51 ?_
      refine hx_sI C0 hU hH h dX4_deliver_52 (fun w H locs hH h => ?_)
      refine hx_aload_n C0 dX4_deliver_53 rfl (lv_at hl 2 rfl) ?_
      refine lv_dup hx hb dX4_deliver_54 rfl ?_
      refine hx_gI C0 hU hH (ci := 3) rfl in_X4 3 (by decide) q1074 (fun _ h9 => h9) h dX4_deliver_55 (fun i_11 h => ?_)
      refine lv_iconst (v := 1) hx hb dX4_deliver_58 (by decide) ?_
      refine lv_iadd hx hb dX4_deliver_59 ?_
      refine hx_pV C0 hU hH (ci := 3) rfl in_X4 tyX4 tyX4_ok nmX4 3 (by decide) q1074 (fun _ h9 => h9) (Or.inl rfl) rfl rfl h dX4_deliver_60 (fun w H locs hH h => ?_)
      refine lv_iload_n hx hb dX4_deliver_63 rfl (lv_at hl 0 rfl) ?_
      exact hx_reti C0 hH hr hlocks h (Nat.le_of_ble_eq_true rfl) (Nat.le_of_ble_eq_true rfl) dX4_deliver_64
    · have h := h.2 c_2
      refine lv_iconst (v := 0) hx hb dX4_deliver_20 (by decide) ?_
      exact hx_reti C0 hH hr hlocks h (Nat.le_of_ble_eq_true rfl) (Nat.le_of_ble_eq_true rfl) dX4_deliver_21
  refine hx_aload_n C0 dX4_deliver_0 rfl (lv_at hl 0 rfl) ?_
  refine hx_aload_n C0 dX4_deliver_1 rfl (lv_at hl 0 rfl) ?_
  refine lv_iload_n hx hb dX4_deliver_2 rfl (lv_at hl 1 rfl) ?_
  obtain ⟨ho, h⟩ := h
  refine hx_Vi C0 hU hH (As := [.int x1]) (wk_X4_isLetter l h) (cwV 1 hts (lw_V q1294 q1296 qs46 q71 q1297) rfl rfl rfl (by decide +kernel) ⟨Nat.le_of_ble_eq_true rfl, Nat.le_of_ble_eq_true rfl⟩) (hx_recv hU hH (ci := 3) rfl ho) rfl hl.1 rfl (Nat.le_of_ble_eq_true rfl) dX4_deliver_3 ⟨Nat.le_of_ble_eq_true rfl, Nat.le_of_ble_eq_true rfl⟩ (fun i_1 w H locs hH h => ?_)
  refine lv_if_eq hx hb dX4_deliver_6 (tgt := 13) (by decide) (fun c_2 => ?_) (fun c_2 => ?_)
  · have h := h.1 c_2
    refine lv_iconst (v := 1) hx hb dX4_deliver_13 (by decide) ?_
    refine W.widen (k := 0) (n := 0) (Nat.le_of_ble_eq_true rfl) (Nat.le_of_ble_eq_true rfl) ?_
    exact b14 _ _ _ _ _ h _ _ _ hH (lv_sub hl [0, 1] rfl)
  · have h := h.2 c_2
    refine lv_iconst (v := 0) hx hb dX4_deliver_9 (by decide) ?_
    refine lv_goto hx hb dX4_deliver_10 (tgt := 14) (by decide) ?_
    refine W.widen (k := 0) (n := 0) (Nat.le_of_ble_eq_true rfl) (Nat.le_of_ble_eq_true rfl) ?_
    exact b14 _ _ _ _ _ h _ _ _ hH (lv_sub hl [0, 1] rfl)
def wp_X4_lose_b14 (K : Hp → Int32 → Prop)  (w : Hp) (a0 : Nat) (x1 : Int32) (t0 : Int32) (at1 : Nat) : Prop :=
  isO w at1 3 <| wp_X4_isWrong w at1 t0 fun w i_1 => br (i_1 = 0) (isO w a0 3 <| wp_X4_take w a0 x1 fun w => gI w a0 3 24 fun i_3 => K w i_3) (K w (0 : Int32))
def wp_X4_lose (w : Hp) (a0 : Nat) (x1 : Int32) (K : Hp → Int32 → Prop) : Prop :=
  isO w a0 3 <| wp_X4_isLetter w a0 x1 fun w i_1 => br (i_1 = 0) (wp_X4_lose_b14 K w a0 x1 (1 : Int32) a0) (wp_X4_lose_b14 K w a0 x1 (0 : Int32) a0)
abbrev rm_X4_lose : Room := { frames := 2, cells := 0, slots := 0, locals := 46 }
abbrev ws9_X4_lose : List Cond := ws_ yX4_lose cX4_lose 2 (Option.some Jvm.ClassFile.FieldType.int)
abbrev Q9_X4_lose (below : List Frame) (args : Array Value) (s : State) (G : hG) (K : Hp → Int32 → Prop) : State → Prop := MQ below (hx_Qi G K) args s 0 0 (hx_A G)
set_option maxHeartbeats 4000000 in
set_option maxRecDepth 100000 in
theorem wk_X4_lose (l : Launch) {G : hG} {w : Hp} {a0 : Nat} {x1 : Int32} {K : Hp → Int32 → Prop} (h : wp_X4_lose w a0 x1 K) : hx_Mi l yX4_lose (ws9_X4_lose) rm_X4_lose G w [.ref a0, .int x1] K 0 0 := by
  refine Met.ofW (cc := cX4_lose) (maxL := 2) (ret := (Option.some Jvm.ClassFile.FieldType.int)) (by decide +kernel) rfl ?_
  intro p e s m args below meth c s₁ B hml hv
  refine hx_in (own := RX4) (av := [.ref a0, .int x1]) (vl := [(0, va_rf (some a0)), (1, .int x1)]) rfl rfl (Nat.le_of_ble_eq_true rfl) rfl B hml hv ?_
  intro C0 hU hH hr hlocks hin ls hl
  have hx := C0.1
  have hb := C0.2.1
  have hts := C0.2.2.2.2
  have b14 : ∀ (w : Hp) (a0 : Nat) (x1 : Int32) (t0 : Int32) (at1 : Nat), wp_X4_lose_b14 K  w a0 x1 t0 at1 → ∀ (H : Heap) (locs : List Loc) (ls : Array Slot), hx_H G w s H locs → lv_has ls 2 [(0, va_rf (some a0)), (1, .int x1)] → W p l e (headSpec (ws9_X4_lose) rm_X4_lose).room s m args below meth c H locs (0) (0) (Q9_X4_lose below args s G K) (F0 m 14 ls [.int t0, va_rf (some at1)]) := by
    intro w a0 x1 t0 at1 h H locs ls hH hl
    obtain ⟨ho, h⟩ := h
    refine hx_Vi C0 hU hH (As := [.int t0]) (wk_X4_isWrong l h) (cwV 1 hts (lw_V q1166 q1168 qs34 q71 q1169) rfl rfl rfl (by decide +kernel) ⟨Nat.le_of_ble_eq_true rfl, Nat.le_of_ble_eq_true rfl⟩) (hx_recv hU hH (ci := 3) rfl ho) rfl hl.1 rfl (Nat.le_of_ble_eq_true rfl) dX4_lose_14 ⟨Nat.le_of_ble_eq_true rfl, Nat.le_of_ble_eq_true rfl⟩ (fun i_1 w H locs hH h => ?_)
    refine lv_if_eq hx hb dX4_lose_17 (tgt := 22) (by decide) (fun c_2 => ?_) (fun c_2 => ?_)
    · have h := h.1 c_2
      refine hx_aload_n C0 dX4_lose_22 rfl (lv_at hl 0 rfl) ?_
      refine lv_iload_n hx hb dX4_lose_23 rfl (lv_at hl 1 rfl) ?_
      obtain ⟨ho, h⟩ := h
      refine hx_Vv C0 hU hH (As := [.int x1]) (wk_X4_take l h) (cwV 1 hts (lw_V q1298 q1300 qs47 q71 q1301) rfl rfl rfl (by decide +kernel) ⟨Nat.le_of_ble_eq_true rfl, Nat.le_of_ble_eq_true rfl⟩) (hx_recv hU hH (ci := 3) rfl ho) rfl hl.1 rfl (Nat.le_of_ble_eq_true rfl) dX4_lose_24 ⟨Nat.le_of_ble_eq_true rfl, Nat.le_of_ble_eq_true rfl⟩ (fun w H locs hH h => ?_)
      refine hx_aload_n C0 dX4_lose_27 rfl (lv_at hl 0 rfl) ?_
      refine hx_gI C0 hU hH (ci := 3) rfl in_X4 24 (by decide) q1095 (fun _ h9 => h9) h dX4_lose_28 (fun i_3 h => ?_)
      exact hx_reti C0 hH hr hlocks h (Nat.le_of_ble_eq_true rfl) (Nat.le_of_ble_eq_true rfl) dX4_lose_31
    · have h := h.2 c_2
      refine lv_iconst (v := 0) hx hb dX4_lose_20 (by decide) ?_
      exact hx_reti C0 hH hr hlocks h (Nat.le_of_ble_eq_true rfl) (Nat.le_of_ble_eq_true rfl) dX4_lose_21
  refine hx_aload_n C0 dX4_lose_0 rfl (lv_at hl 0 rfl) ?_
  refine hx_aload_n C0 dX4_lose_1 rfl (lv_at hl 0 rfl) ?_
  refine lv_iload_n hx hb dX4_lose_2 rfl (lv_at hl 1 rfl) ?_
  obtain ⟨ho, h⟩ := h
  refine hx_Vi C0 hU hH (As := [.int x1]) (wk_X4_isLetter l h) (cwV 1 hts (lw_V q1294 q1296 qs46 q71 q1297) rfl rfl rfl (by decide +kernel) ⟨Nat.le_of_ble_eq_true rfl, Nat.le_of_ble_eq_true rfl⟩) (hx_recv hU hH (ci := 3) rfl ho) rfl hl.1 rfl (Nat.le_of_ble_eq_true rfl) dX4_lose_3 ⟨Nat.le_of_ble_eq_true rfl, Nat.le_of_ble_eq_true rfl⟩ (fun i_1 w H locs hH h => ?_)
  refine lv_if_eq hx hb dX4_lose_6 (tgt := 13) (by decide) (fun c_2 => ?_) (fun c_2 => ?_)
  · have h := h.1 c_2
    refine lv_iconst (v := 1) hx hb dX4_lose_13 (by decide) ?_
    refine W.widen (k := 0) (n := 0) (Nat.le_of_ble_eq_true rfl) (Nat.le_of_ble_eq_true rfl) ?_
    exact b14 _ _ _ _ _ h _ _ _ hH (lv_sub hl [0, 1] rfl)
  · have h := h.2 c_2
    refine lv_iconst (v := 0) hx hb dX4_lose_9 (by decide) ?_
    refine lv_goto hx hb dX4_lose_10 (tgt := 14) (by decide) ?_
    refine W.widen (k := 0) (n := 0) (Nat.le_of_ble_eq_true rfl) (Nat.le_of_ble_eq_true rfl) ?_
    exact b14 _ _ _ _ _ h _ _ _ hH (lv_sub hl [0, 1] rfl)
def wp_X4_twice_b27 (K : Hp → Int32 → Prop)  (w : Hp) (a0 : Nat) (x1 : Int32) (t0 : Int32) (at1 : Nat) : Prop :=
  isO w at1 3 <| wp_X4_isWrong w at1 t0 fun w i_1 => br (i_1 = 0) (gR w a0 3 23 fun r_3 => gI w a0 3 24 fun i_4 => pV w a0 3 24 (.int (i_4 + (1 : Int32))) fun w => gR w a0 3 23 fun r_5 => dR r_5 fun b_6 => aR w b_6 x1 fun r_7 => dR r_7 fun b_8 => clI w b_8 16 fun w b_9 => ckI w (some b_9) <| dR r_3 fun b_10 => sR w b_10 i_4 (some b_9) fun w => gI w a0 3 24 fun i_11 => K w i_11) (K w (0 : Int32))
def wp_X4_twice (w : Hp) (a0 : Nat) (x1 : Int32) (K : Hp → Int32 → Prop) : Prop :=
  isO w a0 3 <| wp_X4_isLetter w a0 x1 fun w i_1 => br (i_1 = 0) (wp_X4_twice_b27 K w a0 x1 (1 : Int32) a0) (gI w a0 3 24 fun i_3 => br (i_3 = (60 : Int32)) (wp_X4_twice_b27 K w a0 x1 (2 : Int32) a0) (wp_X4_twice_b27 K w a0 x1 (0 : Int32) a0))
abbrev rm_X4_twice : Room := { frames := 2, cells := 1, slots := 16, locals := 46 }
abbrev ws9_X4_twice : List Cond := ws_ yX4_twice cX4_twice 2 (Option.some Jvm.ClassFile.FieldType.int)
abbrev Q9_X4_twice (below : List Frame) (args : Array Value) (s : State) (G : hG) (K : Hp → Int32 → Prop) : State → Prop := MQ below (hx_Qi G K) args s 1 16 (hx_A G)
set_option maxHeartbeats 4000000 in
set_option maxRecDepth 100000 in
theorem wk_X4_twice (l : Launch) {G : hG} {w : Hp} {a0 : Nat} {x1 : Int32} {K : Hp → Int32 → Prop} (h : wp_X4_twice w a0 x1 K) : hx_Mi l yX4_twice (ws9_X4_twice) rm_X4_twice G w [.ref a0, .int x1] K 1 16 := by
  refine Met.ofW (cc := cX4_twice) (maxL := 2) (ret := (Option.some Jvm.ClassFile.FieldType.int)) (by decide +kernel) rfl ?_
  intro p e s m args below meth c s₁ B hml hv
  refine hx_in (own := RX4) (av := [.ref a0, .int x1]) (vl := [(0, va_rf (some a0)), (1, .int x1)]) rfl rfl (Nat.le_of_ble_eq_true rfl) rfl B hml hv ?_
  intro C0 hU hH hr hlocks hin ls hl
  have hx := C0.1
  have hb := C0.2.1
  have hts := C0.2.2.2.2
  have b27 : ∀ (w : Hp) (a0 : Nat) (x1 : Int32) (t0 : Int32) (at1 : Nat), wp_X4_twice_b27 K  w a0 x1 t0 at1 → ∀ (H : Heap) (locs : List Loc) (ls : Array Slot), hx_H G w s H locs → lv_has ls 2 [(0, va_rf (some a0)), (1, .int x1)] → W p l e (headSpec (ws9_X4_twice) rm_X4_twice).room s m args below meth c H locs (0) (0) (Q9_X4_twice below args s G K) (F0 m 27 ls [.int t0, va_rf (some at1)]) := by
    intro w a0 x1 t0 at1 h H locs ls hH hl
    obtain ⟨ho, h⟩ := h
    refine hx_Vi C0 hU hH (As := [.int t0]) (wk_X4_isWrong l h) (cwV 1 hts (lw_V q1166 q1168 qs34 q71 q1169) rfl rfl rfl (by decide +kernel) ⟨Nat.le_of_ble_eq_true rfl, Nat.le_of_ble_eq_true rfl⟩) (hx_recv hU hH (ci := 3) rfl ho) rfl hl.1 rfl (Nat.le_of_ble_eq_true rfl) dX4_twice_27 ⟨Nat.le_of_ble_eq_true rfl, Nat.le_of_ble_eq_true rfl⟩ (fun i_1 w H locs hH h => ?_)
    refine lv_if_eq hx hb dX4_twice_30 (tgt := 35) (by decide) (fun c_2 => ?_) (fun c_2 => ?_)
    · have h := h.1 c_2
      refine hx_aload_n C0 dX4_twice_35 rfl (lv_at hl 0 rfl) ?_
      refine hx_gR C0 hU hH (ci := 3) rfl in_X4 23 (by decide) q1094 (fun _ h9 => h9) h dX4_twice_36 (fun r_3 h => ?_)
      refine hx_aload_n C0 dX4_twice_39 rfl (lv_at hl 0 rfl) ?_
      refine lv_dup hx hb dX4_twice_40 rfl ?_
      refine hx_gI C0 hU hH (ci := 3) rfl in_X4 24 (by decide) q1095 (fun _ h9 => h9) h dX4_twice_41 (fun i_4 h => ?_)
      refine lv_dup_x1 hx hb dX4_twice_44 rfl rfl ?_
      refine lv_iconst (v := 1) hx hb dX4_twice_45 (by decide) ?_
      refine lv_iadd hx hb dX4_twice_46 ?_
      refine hx_pV C0 hU hH (ci := 3) rfl in_X4 tyX4 tyX4_ok nmX4 24 (by decide) q1095 (fun _ h9 => h9) (Or.inl rfl) rfl rfl h dX4_twice_47 (fun w H locs hH h => ?_)
      refine hx_aload_n C0 dX4_twice_50 rfl (lv_at hl 0 rfl) ?_
      refine hx_gR C0 hU hH (ci := 3) rfl in_X4 23 (by decide) q1094 (fun _ h9 => h9) h dX4_twice_51 (fun r_5 h => ?_)
      refine lv_iload_n hx hb dX4_twice_54 rfl (lv_at hl 1 rfl) ?_
      obtain ⟨b_6, rfl, h9⟩ := h
      have h := h9
      clear h9
      refine hx_aR C0 hU hH h dX4_twice_55 (fun r_7 h => ?_)
      obtain ⟨b_8, rfl, h9⟩ := h
      have h := h9
      clear h9
      refine hx_clI C0 hU hH hl.1.symm q1348 h (Nat.le_of_ble_eq_true rfl) (by cases r_3 <;> exact Nat.le_of_ble_eq_true rfl) (Nat.le_of_ble_eq_true rfl) (Nat.le_of_ble_eq_true rfl) dX4_twice_56 (fun b_9 w H locs hH h => ?_)
      refine hx_ckI C0 hU hH q1339 h dX4_twice_59 (fun h => ?_)
      obtain ⟨b_10, rfl, h9⟩ := h
      have h := h9
      clear h9
      refine hx_sR C0 hU hH h dX4_twice_62 (fun w H locs hH h => ?_)
      refine hx_aload_n C0 dX4_twice_63 rfl (lv_at hl 0 rfl) ?_
      refine hx_gI C0 hU hH (ci := 3) rfl in_X4 24 (by decide) q1095 (fun _ h9 => h9) h dX4_twice_64 (fun i_11 h => ?_)
      exact hx_reti C0 hH hr hlocks h (Nat.le_of_ble_eq_true rfl) (Nat.le_of_ble_eq_true rfl) dX4_twice_67
    · have h := h.2 c_2
      refine lv_iconst (v := 0) hx hb dX4_twice_33 (by decide) ?_
      exact hx_reti C0 hH hr hlocks h (Nat.le_of_ble_eq_true rfl) (Nat.le_of_ble_eq_true rfl) dX4_twice_34
  refine hx_aload_n C0 dX4_twice_0 rfl (lv_at hl 0 rfl) ?_
  refine hx_aload_n C0 dX4_twice_1 rfl (lv_at hl 0 rfl) ?_
  refine lv_iload_n hx hb dX4_twice_2 rfl (lv_at hl 1 rfl) ?_
  obtain ⟨ho, h⟩ := h
  refine hx_Vi C0 hU hH (As := [.int x1]) (wk_X4_isLetter l h) (cwV 1 hts (lw_V q1294 q1296 qs46 q71 q1297) rfl rfl rfl (by decide +kernel) ⟨Nat.le_of_ble_eq_true rfl, Nat.le_of_ble_eq_true rfl⟩) (hx_recv hU hH (ci := 3) rfl ho) rfl hl.1 rfl (Nat.le_of_ble_eq_true rfl) dX4_twice_3 ⟨Nat.le_of_ble_eq_true rfl, Nat.le_of_ble_eq_true rfl⟩ (fun i_1 w H locs hH h => ?_)
  refine lv_if_ne hx hb dX4_twice_6 (tgt := 13) (by decide) (fun c_2 => ?_) (fun c_2 => ?_)
  · have h := h.2 c_2
    refine hx_aload_n C0 dX4_twice_13 rfl (lv_at hl 0 rfl) ?_
    refine hx_gI C0 hU hH (ci := 3) rfl in_X4 24 (by decide) q1095 (fun _ h9 => h9) h dX4_twice_14 (fun i_3 h => ?_)
    refine lv_bipush (v := 60) hx hb dX4_twice_17 (by decide) ?_
    refine lv_icmp_ne hx hb dX4_twice_19 (tgt := 26) (by decide) (fun c_4 => ?_) (fun c_4 => ?_)
    · have h := h.2 c_4
      refine lv_iconst (v := 0) hx hb dX4_twice_26 (by decide) ?_
      refine W.widen (k := 0) (n := 0) (Nat.le_of_ble_eq_true rfl) (Nat.le_of_ble_eq_true rfl) ?_
      exact b27 _ _ _ _ _ h _ _ _ hH (lv_sub hl [0, 1] rfl)
    · have h := h.1 c_4
      refine lv_iconst (v := 2) hx hb dX4_twice_22 (by decide) ?_
      refine lv_goto hx hb dX4_twice_23 (tgt := 27) (by decide) ?_
      refine W.widen (k := 0) (n := 0) (Nat.le_of_ble_eq_true rfl) (Nat.le_of_ble_eq_true rfl) ?_
      exact b27 _ _ _ _ _ h _ _ _ hH (lv_sub hl [0, 1] rfl)
  · have h := h.1 c_2
    refine lv_iconst (v := 1) hx hb dX4_twice_9 (by decide) ?_
    refine lv_goto hx hb dX4_twice_10 (tgt := 27) (by decide) ?_
    refine W.widen (k := 0) (n := 0) (Nat.le_of_ble_eq_true rfl) (Nat.le_of_ble_eq_true rfl) ?_
    exact b27 _ _ _ _ _ h _ _ _ hH (lv_sub hl [0, 1] rfl)
def wp_X4_canTurn_b57 (K : Hp → Int32 → Prop)  (w : Hp)  : Prop :=
  K w (1 : Int32)
def wp_X4_canTurn_b40 (K : Hp → Int32 → Prop)  (w : Hp) (x0 : Int32) (x1 : Int32) : Prop :=
  br (x0 = (4 : Int32)) (wp_X4_isBetween w (x1.toInt64) (1 : Int64) (5 : Int64) fun w i_2 => br (i_2 = 0) (K w (0 : Int32)) (wp_X4_canTurn_b57 K w)) (K w (0 : Int32))
def wp_X4_canTurn_b25 (K : Hp → Int32 → Prop)  (w : Hp) (x0 : Int32) (x1 : Int32) : Prop :=
  br (x0 = (3 : Int32)) (br (x1 = (1 : Int32)) (wp_X4_canTurn_b57 K w) (br (x1 = (2 : Int32)) (wp_X4_canTurn_b57 K w) (wp_X4_canTurn_b40 K w x0 x1))) (wp_X4_canTurn_b40 K w x0 x1)
def wp_X4_canTurn_b15 (K : Hp → Int32 → Prop)  (w : Hp) (x0 : Int32) (x1 : Int32) : Prop :=
  br (x0 = (2 : Int32)) (br (x1 = (3 : Int32)) (wp_X4_canTurn_b57 K w) (wp_X4_canTurn_b25 K w x0 x1)) (wp_X4_canTurn_b25 K w x0 x1)
def wp_X4_canTurn (w : Hp) (x0 : Int32) (x1 : Int32) (K : Hp → Int32 → Prop) : Prop :=
  br (x0 = (1 : Int32)) (br (x1 = (3 : Int32)) (wp_X4_canTurn_b57 K w) (br (x1 = (4 : Int32)) (wp_X4_canTurn_b57 K w) (wp_X4_canTurn_b15 K w x0 x1))) (wp_X4_canTurn_b15 K w x0 x1)
abbrev rm_X4_canTurn : Room := { frames := 1, cells := 0, slots := 0, locals := 25 }
abbrev ws9_X4_canTurn : List Cond := ws_ yX4_canTurn cX4_canTurn 2 (Option.some Jvm.ClassFile.FieldType.boolean)
abbrev Q9_X4_canTurn (below : List Frame) (args : Array Value) (s : State) (G : hG) (K : Hp → Int32 → Prop) : State → Prop := MQ below (hx_Qi G K) args s 0 0 (hx_A G)
set_option maxHeartbeats 4000000 in
set_option maxRecDepth 100000 in
theorem wk_X4_canTurn (l : Launch) {G : hG} {w : Hp} {x0 : Int32} {x1 : Int32} {K : Hp → Int32 → Prop} (h : wp_X4_canTurn w x0 x1 K) : hx_Mi l yX4_canTurn (ws9_X4_canTurn) rm_X4_canTurn G w [.int x0, .int x1] K 0 0 := by
  refine Met.ofW (cc := cX4_canTurn) (maxL := 2) (ret := (Option.some Jvm.ClassFile.FieldType.boolean)) (by decide +kernel) rfl ?_
  intro p e s m args below meth c s₁ B hml hv
  refine hx_in (own := RX4) (av := [.int x0, .int x1]) (vl := [(0, .int x0), (1, .int x1)]) rfl rfl (Nat.le_of_ble_eq_true rfl) rfl B hml hv ?_
  intro C0 hU hH hr hlocks hin ls hl
  have hx := C0.1
  have hb := C0.2.1
  have hts := C0.2.2.2.2
  have b57 : ∀ (w : Hp) , wp_X4_canTurn_b57 K  w  → ∀ (H : Heap) (locs : List Loc) (ls : Array Slot), hx_H G w s H locs → lv_has ls 2 [] → W p l e (headSpec (ws9_X4_canTurn) rm_X4_canTurn).room s m args below meth c H locs (0) (0) (Q9_X4_canTurn below args s G K) (F0 m 57 ls []) := by
    intro w  h H locs ls hH hl
    refine lv_iconst (v := 1) hx hb dX4_canTurn_57 (by decide) ?_
    refine lv_goto hx hb dX4_canTurn_58 (tgt := 62) (by decide) ?_
    exact hx_retz C0 hH hr hlocks (Or.inr rfl) h (Nat.le_of_ble_eq_true rfl) (Nat.le_of_ble_eq_true rfl) dX4_canTurn_62
  have b40 : ∀ (w : Hp) (x0 : Int32) (x1 : Int32), wp_X4_canTurn_b40 K  w x0 x1 → ∀ (H : Heap) (locs : List Loc) (ls : Array Slot), hx_H G w s H locs → lv_has ls 2 [(0, .int x0), (1, .int x1)] → W p l e (headSpec (ws9_X4_canTurn) rm_X4_canTurn).room s m args below meth c H locs (0) (0) (Q9_X4_canTurn below args s G K) (F0 m 40 ls []) := by
    intro w x0 x1 h H locs ls hH hl
    refine lv_iload_n hx hb dX4_canTurn_40 rfl (lv_at hl 0 rfl) ?_
    refine lv_iconst (v := 4) hx hb dX4_canTurn_41 (by decide) ?_
    refine lv_icmp_ne hx hb dX4_canTurn_42 (tgt := 61) (by decide) (fun c_1 => ?_) (fun c_1 => ?_)
    · have h := h.2 c_1
      refine lv_iconst (v := 0) hx hb dX4_canTurn_61 (by decide) ?_
      exact hx_retz C0 hH hr hlocks (Or.inl rfl) h (Nat.le_of_ble_eq_true rfl) (Nat.le_of_ble_eq_true rfl) dX4_canTurn_62
    · have h := h.1 c_1
      refine lv_iload_n hx hb dX4_canTurn_45 rfl (lv_at hl 1 rfl) ?_
      refine lv_i2l hx hb dX4_canTurn_46 rfl ?_
      refine lv_lconst (v := 1) hx hb dX4_canTurn_47 (by decide) ?_
      refine lv_ldc2 (v := 5) hx hb C0.2.2.2.1 (hts _ q1361) dX4_canTurn_48 ?_
      refine hx_Si C0 hU hH (As := [.long (x1.toInt64), .long (1 : Int64), .long (5 : Int64)]) (wk_X4_isBetween l h) (va_cwS 3 hts (lw_S q1162 q1163 q71 q1164) rfl rfl rfl (by decide +kernel) ⟨Nat.le_of_ble_eq_true rfl, Nat.le_of_ble_eq_true rfl⟩) rfl hl.1 rfl (Nat.le_of_ble_eq_true rfl) dX4_canTurn_51 ⟨Nat.le_of_ble_eq_true rfl, Nat.le_of_ble_eq_true rfl⟩ (fun i_2 w H locs hH h => ?_)
      refine lv_if_eq hx hb dX4_canTurn_54 (tgt := 61) (by decide) (fun c_3 => ?_) (fun c_3 => ?_)
      · have h := h.1 c_3
        refine lv_iconst (v := 0) hx hb dX4_canTurn_61 (by decide) ?_
        exact hx_retz C0 hH hr hlocks (Or.inl rfl) h (Nat.le_of_ble_eq_true rfl) (Nat.le_of_ble_eq_true rfl) dX4_canTurn_62
      · have h := h.2 c_3
        refine W.widen (k := 0) (n := 0) (Nat.le_of_ble_eq_true rfl) (Nat.le_of_ble_eq_true rfl) ?_
        exact b57 _  h _ _ _ hH (lv_sub hl [] rfl)
  have b25 : ∀ (w : Hp) (x0 : Int32) (x1 : Int32), wp_X4_canTurn_b25 K  w x0 x1 → ∀ (H : Heap) (locs : List Loc) (ls : Array Slot), hx_H G w s H locs → lv_has ls 2 [(0, .int x0), (1, .int x1)] → W p l e (headSpec (ws9_X4_canTurn) rm_X4_canTurn).room s m args below meth c H locs (0) (0) (Q9_X4_canTurn below args s G K) (F0 m 25 ls []) := by
    intro w x0 x1 h H locs ls hH hl
    refine lv_iload_n hx hb dX4_canTurn_25 rfl (lv_at hl 0 rfl) ?_
    refine lv_iconst (v := 3) hx hb dX4_canTurn_26 (by decide) ?_
    refine lv_icmp_ne hx hb dX4_canTurn_27 (tgt := 40) (by decide) (fun c_1 => ?_) (fun c_1 => ?_)
    · have h := h.2 c_1
      refine W.widen (k := 0) (n := 0) (Nat.le_of_ble_eq_true rfl) (Nat.le_of_ble_eq_true rfl) ?_
      exact b40 _ _ _ h _ _ _ hH (lv_sub hl [0, 1] rfl)
    · have h := h.1 c_1
      refine lv_iload_n hx hb dX4_canTurn_30 rfl (lv_at hl 1 rfl) ?_
      refine lv_iconst (v := 1) hx hb dX4_canTurn_31 (by decide) ?_
      refine lv_icmp_eq hx hb dX4_canTurn_32 (tgt := 57) (by decide) (fun c_2 => ?_) (fun c_2 => ?_)
      · have h := h.1 c_2
        refine W.widen (k := 0) (n := 0) (Nat.le_of_ble_eq_true rfl) (Nat.le_of_ble_eq_true rfl) ?_
        exact b57 _  h _ _ _ hH (lv_sub hl [] rfl)
      · have h := h.2 c_2
        refine lv_iload_n hx hb dX4_canTurn_35 rfl (lv_at hl 1 rfl) ?_
        refine lv_iconst (v := 2) hx hb dX4_canTurn_36 (by decide) ?_
        refine lv_icmp_eq hx hb dX4_canTurn_37 (tgt := 57) (by decide) (fun c_3 => ?_) (fun c_3 => ?_)
        · have h := h.1 c_3
          refine W.widen (k := 0) (n := 0) (Nat.le_of_ble_eq_true rfl) (Nat.le_of_ble_eq_true rfl) ?_
          exact b57 _  h _ _ _ hH (lv_sub hl [] rfl)
        · have h := h.2 c_3
          refine W.widen (k := 0) (n := 0) (Nat.le_of_ble_eq_true rfl) (Nat.le_of_ble_eq_true rfl) ?_
          exact b40 _ _ _ h _ _ _ hH (lv_sub hl [0, 1] rfl)
  have b15 : ∀ (w : Hp) (x0 : Int32) (x1 : Int32), wp_X4_canTurn_b15 K  w x0 x1 → ∀ (H : Heap) (locs : List Loc) (ls : Array Slot), hx_H G w s H locs → lv_has ls 2 [(0, .int x0), (1, .int x1)] → W p l e (headSpec (ws9_X4_canTurn) rm_X4_canTurn).room s m args below meth c H locs (0) (0) (Q9_X4_canTurn below args s G K) (F0 m 15 ls []) := by
    intro w x0 x1 h H locs ls hH hl
    refine lv_iload_n hx hb dX4_canTurn_15 rfl (lv_at hl 0 rfl) ?_
    refine lv_iconst (v := 2) hx hb dX4_canTurn_16 (by decide) ?_
    refine lv_icmp_ne hx hb dX4_canTurn_17 (tgt := 25) (by decide) (fun c_1 => ?_) (fun c_1 => ?_)
    · have h := h.2 c_1
      refine W.widen (k := 0) (n := 0) (Nat.le_of_ble_eq_true rfl) (Nat.le_of_ble_eq_true rfl) ?_
      exact b25 _ _ _ h _ _ _ hH (lv_sub hl [0, 1] rfl)
    · have h := h.1 c_1
      refine lv_iload_n hx hb dX4_canTurn_20 rfl (lv_at hl 1 rfl) ?_
      refine lv_iconst (v := 3) hx hb dX4_canTurn_21 (by decide) ?_
      refine lv_icmp_eq hx hb dX4_canTurn_22 (tgt := 57) (by decide) (fun c_2 => ?_) (fun c_2 => ?_)
      · have h := h.1 c_2
        refine W.widen (k := 0) (n := 0) (Nat.le_of_ble_eq_true rfl) (Nat.le_of_ble_eq_true rfl) ?_
        exact b57 _  h _ _ _ hH (lv_sub hl [] rfl)
      · have h := h.2 c_2
        refine W.widen (k := 0) (n := 0) (Nat.le_of_ble_eq_true rfl) (Nat.le_of_ble_eq_true rfl) ?_
        exact b25 _ _ _ h _ _ _ hH (lv_sub hl [0, 1] rfl)
  refine lv_iload_n hx hb dX4_canTurn_0 rfl (lv_at hl 0 rfl) ?_
  refine lv_iconst (v := 1) hx hb dX4_canTurn_1 (by decide) ?_
  refine lv_icmp_ne hx hb dX4_canTurn_2 (tgt := 15) (by decide) (fun c_1 => ?_) (fun c_1 => ?_)
  · have h := h.2 c_1
    refine W.widen (k := 0) (n := 0) (Nat.le_of_ble_eq_true rfl) (Nat.le_of_ble_eq_true rfl) ?_
    exact b15 _ _ _ h _ _ _ hH (lv_sub hl [0, 1] rfl)
  · have h := h.1 c_1
    refine lv_iload_n hx hb dX4_canTurn_5 rfl (lv_at hl 1 rfl) ?_
    refine lv_iconst (v := 3) hx hb dX4_canTurn_6 (by decide) ?_
    refine lv_icmp_eq hx hb dX4_canTurn_7 (tgt := 57) (by decide) (fun c_2 => ?_) (fun c_2 => ?_)
    · have h := h.1 c_2
      refine W.widen (k := 0) (n := 0) (Nat.le_of_ble_eq_true rfl) (Nat.le_of_ble_eq_true rfl) ?_
      exact b57 _  h _ _ _ hH (lv_sub hl [] rfl)
    · have h := h.2 c_2
      refine lv_iload_n hx hb dX4_canTurn_10 rfl (lv_at hl 1 rfl) ?_
      refine lv_iconst (v := 4) hx hb dX4_canTurn_11 (by decide) ?_
      refine lv_icmp_eq hx hb dX4_canTurn_12 (tgt := 57) (by decide) (fun c_3 => ?_) (fun c_3 => ?_)
      · have h := h.1 c_3
        refine W.widen (k := 0) (n := 0) (Nat.le_of_ble_eq_true rfl) (Nat.le_of_ble_eq_true rfl) ?_
        exact b57 _  h _ _ _ hH (lv_sub hl [] rfl)
      · have h := h.2 c_3
        refine W.widen (k := 0) (n := 0) (Nat.le_of_ble_eq_true rfl) (Nat.le_of_ble_eq_true rfl) ?_
        exact b15 _ _ _ h _ _ _ hH (lv_sub hl [0, 1] rfl)
def wp_X4_turn_b137 (K : Hp → Int32 → Prop)  (w : Hp) (a0 : Nat) (x1 : Int32) (x2 : Int32) (x3 : Int32) (t0 : Int32) (at1 : Nat) : Prop :=
  isO w at1 3 <| wp_X4_isWrong w at1 t0 fun w i_1 => br (i_1 = 0) (gR w a0 3 23 fun r_3 => dR r_3 fun b_4 => aR w b_4 x1 fun r_5 => dR r_5 fun b_6 => sI w b_6 (15 : Int32) x2 fun w => gR w a0 3 23 fun r_7 => dR r_7 fun b_8 => aR w b_8 x1 fun r_9 => dR r_9 fun b_10 => aI w b_10 ((3 : Int32) + x2) fun i_11 => sI w b_10 ((3 : Int32) + x2) (i_11 + x3) fun w => gR w a0 3 23 fun r_12 => dR r_12 fun b_13 => aR w b_13 x1 fun r_14 => dR r_14 fun b_15 => aI w b_15 ((3 : Int32) + x2) fun i_16 => K w i_16) (K w (0 : Int32))
def wp_X4_turn_b135 (K : Hp → Int32 → Prop)  (w : Hp) (a0 : Nat) (x1 : Int32) (x2 : Int32) (x3 : Int32) (x4 : Int32) (at0 : Nat) : Prop :=
  wp_X4_turn_b137 K w a0 x1 x2 x3 x4 at0
def wp_X4_turn_b99 (K : Hp → Int32 → Prop)  (w : Hp) (a0 : Nat) (x1 : Int32) (x2 : Int32) (x3 : Int32) (x4 : Int32) : Prop :=
  br (x4 = 0) (gR w a0 3 23 fun r_2 => dR r_2 fun b_3 => aR w b_3 x1 fun r_4 => dR r_4 fun b_5 => aI w b_5 (15 : Int32) fun i_6 => br (i_6 = (-1 : Int32)) (wp_X4_turn_b135 K w a0 x1 x2 x3 x4 a0) (gR w a0 3 23 fun r_8 => dR r_8 fun b_9 => aR w b_9 x1 fun r_10 => dR r_10 fun b_11 => aI w b_11 (15 : Int32) fun i_12 => br (i_12 = x2) (wp_X4_turn_b135 K w a0 x1 x2 x3 x4 a0) (wp_X4_turn_b137 K w a0 x1 x2 x3 (3 : Int32) a0))) (wp_X4_turn_b135 K w a0 x1 x2 x3 x4 a0)
def wp_X4_turn_b50 (K : Hp → Int32 → Prop)  (w : Hp) (a0 : Nat) (x1 : Int32) (x2 : Int32) (x3 : Int32) (t0 : Int32) : Prop :=
  br (t0 = 0) (gR w a0 3 23 fun r_2 => dR r_2 fun b_3 => aR w b_3 x1 fun r_4 => dR r_4 fun b_5 => aI w b_5 ((3 : Int32) + x2) fun i_6 => gR w a0 3 23 fun r_7 => dR r_7 fun b_8 => aR w b_8 x1 fun r_9 => dR r_9 fun b_10 => aI w b_10 ((9 : Int32) + x2) fun i_11 => wp_X4_isBetween w (((i_6.toInt64) + (x3.toInt64)) - (i_11.toInt64)) (-10000 : Int64) (10000 : Int64) fun w i_12 => br (i_12 = 0) (wp_X4_turn_b99 K w a0 x1 x2 x3 (2 : Int32)) (wp_X4_turn_b99 K w a0 x1 x2 x3 t0)) (wp_X4_turn_b99 K w a0 x1 x2 x3 t0)
def wp_X4_turn_b45 (K : Hp → Int32 → Prop)  (w : Hp) (a0 : Nat) (x1 : Int32) (x2 : Int32) (x3 : Int32) : Prop :=
  wp_X4_turn_b50 K w a0 x1 x2 x3 (2 : Int32)
def wp_X4_turn (w : Hp) (a0 : Nat) (x1 : Int32) (x2 : Int32) (x3 : Int32) (K : Hp → Int32 → Prop) : Prop :=
  isO w a0 3 <| wp_X4_isLetter w a0 x1 fun w i_1 => br (i_1 = 0) (wp_X4_turn_b50 K w a0 x1 x2 x3 (1 : Int32)) (gR w a0 3 23 fun r_3 => dR r_3 fun b_4 => aR w b_4 x1 fun r_5 => dR r_5 fun b_6 => aI w b_6 (2 : Int32) fun i_7 => wp_X4_canTurn w i_7 x2 fun w i_8 => br (i_8 = 0) (wp_X4_turn_b45 K w a0 x1 x2 x3) (br (x3 = 0) (wp_X4_turn_b45 K w a0 x1 x2 x3) (wp_X4_isBetween w (x3.toInt64) (-500 : Int64) (500 : Int64) fun w i_11 => br (i_11 = 0) (wp_X4_turn_b45 K w a0 x1 x2 x3) (wp_X4_turn_b50 K w a0 x1 x2 x3 (0 : Int32)))))
abbrev rm_X4_turn : Room := { frames := 2, cells := 0, slots := 0, locals := 46 }
abbrev ws9_X4_turn : List Cond := ws_ yX4_turn cX4_turn 5 (Option.some Jvm.ClassFile.FieldType.int)
abbrev Q9_X4_turn (below : List Frame) (args : Array Value) (s : State) (G : hG) (K : Hp → Int32 → Prop) : State → Prop := MQ below (hx_Qi G K) args s 0 0 (hx_A G)
set_option maxHeartbeats 4000000 in
set_option maxRecDepth 100000 in
theorem wk_X4_turn (l : Launch) {G : hG} {w : Hp} {a0 : Nat} {x1 : Int32} {x2 : Int32} {x3 : Int32} {K : Hp → Int32 → Prop} (h : wp_X4_turn w a0 x1 x2 x3 K) : hx_Mi l yX4_turn (ws9_X4_turn) rm_X4_turn G w [.ref a0, .int x1, .int x2, .int x3] K 0 0 := by
  refine Met.ofW (cc := cX4_turn) (maxL := 5) (ret := (Option.some Jvm.ClassFile.FieldType.int)) (by decide +kernel) rfl ?_
  intro p e s m args below meth c s₁ B hml hv
  refine hx_in (own := RX4) (av := [.ref a0, .int x1, .int x2, .int x3]) (vl := [(0, va_rf (some a0)), (1, .int x1), (2, .int x2), (3, .int x3)]) rfl rfl (Nat.le_of_ble_eq_true rfl) rfl B hml hv ?_
  intro C0 hU hH hr hlocks hin ls hl
  have hx := C0.1
  have hb := C0.2.1
  have hts := C0.2.2.2.2
  have b137 : ∀ (w : Hp) (a0 : Nat) (x1 : Int32) (x2 : Int32) (x3 : Int32) (t0 : Int32) (at1 : Nat), wp_X4_turn_b137 K  w a0 x1 x2 x3 t0 at1 → ∀ (H : Heap) (locs : List Loc) (ls : Array Slot), hx_H G w s H locs → lv_has ls 5 [(0, va_rf (some a0)), (1, .int x1), (2, .int x2), (3, .int x3)] → W p l e (headSpec (ws9_X4_turn) rm_X4_turn).room s m args below meth c H locs (0) (0) (Q9_X4_turn below args s G K) (F0 m 137 ls [.int t0, va_rf (some at1)]) := by
    intro w a0 x1 x2 x3 t0 at1 h H locs ls hH hl
    obtain ⟨ho, h⟩ := h
    refine hx_Vi C0 hU hH (As := [.int t0]) (wk_X4_isWrong l h) (cwV 1 hts (lw_V q1166 q1168 qs34 q71 q1169) rfl rfl rfl (by decide +kernel) ⟨Nat.le_of_ble_eq_true rfl, Nat.le_of_ble_eq_true rfl⟩) (hx_recv hU hH (ci := 3) rfl ho) rfl hl.1 rfl (Nat.le_of_ble_eq_true rfl) dX4_turn_137 ⟨Nat.le_of_ble_eq_true rfl, Nat.le_of_ble_eq_true rfl⟩ (fun i_1 w H locs hH h => ?_)
    refine lv_if_eq hx hb dX4_turn_140 (tgt := 145) (by decide) (fun c_2 => ?_) (fun c_2 => ?_)
    · have h := h.1 c_2
      refine hx_aload_n C0 dX4_turn_145 rfl (lv_at hl 0 rfl) ?_
      refine hx_gR C0 hU hH (ci := 3) rfl in_X4 23 (by decide) q1094 (fun _ h9 => h9) h dX4_turn_146 (fun r_3 h => ?_)
      refine lv_iload_n hx hb dX4_turn_149 rfl (lv_at hl 1 rfl) ?_
      obtain ⟨b_4, rfl, h9⟩ := h
      have h := h9
      clear h9
      refine hx_aR C0 hU hH h dX4_turn_150 (fun r_5 h => ?_)
      refine lv_bipush (v := 15) hx hb dX4_turn_151 (by decide) ?_
      refine lv_iload_n hx hb dX4_turn_153 rfl (lv_at hl 2 rfl) ?_
      obtain ⟨b_6, rfl, h9⟩ := h
      have h := h9
      clear h9
      refine hx_sI C0 hU hH h dX4_turn_154 (fun w H locs hH h => ?_)
      refine hx_aload_n C0 dX4_turn_155 rfl (lv_at hl 0 rfl) ?_
      refine hx_gR C0 hU hH (ci := 3) rfl in_X4 23 (by decide) q1094 (fun _ h9 => h9) h dX4_turn_156 (fun r_7 h => ?_)
      refine lv_iload_n hx hb dX4_turn_159 rfl (lv_at hl 1 rfl) ?_
      obtain ⟨b_8, rfl, h9⟩ := h
      have h := h9
      clear h9
      refine hx_aR C0 hU hH h dX4_turn_160 (fun r_9 h => ?_)
      refine lv_iconst (v := 3) hx hb dX4_turn_161 (by decide) ?_
      refine lv_iload_n hx hb dX4_turn_162 rfl (lv_at hl 2 rfl) ?_
      refine lv_iadd hx hb dX4_turn_163 ?_
      refine lv_dup2_11 hx hb dX4_turn_164 rfl (hx_rfc _) ?_
      obtain ⟨b_10, rfl, h9⟩ := h
      have h := h9
      clear h9
      refine hx_aI C0 hU hH h dX4_turn_165 (fun i_11 h => ?_)
      refine lv_iload_n hx hb dX4_turn_166 rfl (lv_at hl 3 rfl) ?_
      refine lv_iadd hx hb dX4_turn_167 ?_
      refine hx_sI C0 hU hH h dX4_turn_168 (fun w H locs hH h => ?_)
      refine hx_aload_n C0 dX4_turn_169 rfl (lv_at hl 0 rfl) ?_
      refine hx_gR C0 hU hH (ci := 3) rfl in_X4 23 (by decide) q1094 (fun _ h9 => h9) h dX4_turn_170 (fun r_12 h => ?_)
      refine lv_iload_n hx hb dX4_turn_173 rfl (lv_at hl 1 rfl) ?_
      obtain ⟨b_13, rfl, h9⟩ := h
      have h := h9
      clear h9
      refine hx_aR C0 hU hH h dX4_turn_174 (fun r_14 h => ?_)
      refine lv_iconst (v := 3) hx hb dX4_turn_175 (by decide) ?_
      refine lv_iload_n hx hb dX4_turn_176 rfl (lv_at hl 2 rfl) ?_
      refine lv_iadd hx hb dX4_turn_177 ?_
      obtain ⟨b_15, rfl, h9⟩ := h
      have h := h9
      clear h9
      refine hx_aI C0 hU hH h dX4_turn_178 (fun i_16 h => ?_)
      exact hx_reti C0 hH hr hlocks h (Nat.le_of_ble_eq_true rfl) (Nat.le_of_ble_eq_true rfl) dX4_turn_179
    · have h := h.2 c_2
      refine lv_iconst (v := 0) hx hb dX4_turn_143 (by decide) ?_
      exact hx_reti C0 hH hr hlocks h (Nat.le_of_ble_eq_true rfl) (Nat.le_of_ble_eq_true rfl) dX4_turn_144
  have b135 : ∀ (w : Hp) (a0 : Nat) (x1 : Int32) (x2 : Int32) (x3 : Int32) (x4 : Int32) (at0 : Nat), wp_X4_turn_b135 K  w a0 x1 x2 x3 x4 at0 → ∀ (H : Heap) (locs : List Loc) (ls : Array Slot), hx_H G w s H locs → lv_has ls 5 [(0, va_rf (some a0)), (1, .int x1), (2, .int x2), (3, .int x3), (4, .int x4)] → W p l e (headSpec (ws9_X4_turn) rm_X4_turn).room s m args below meth c H locs (0) (0) (Q9_X4_turn below args s G K) (F0 m 135 ls [va_rf (some at0)]) := by
    intro w a0 x1 x2 x3 x4 at0 h H locs ls hH hl
    refine lv_iload hx hb dX4_turn_135 (lv_at hl 4 rfl) ?_
    refine W.widen (k := 0) (n := 0) (Nat.le_of_ble_eq_true rfl) (Nat.le_of_ble_eq_true rfl) ?_
    exact b137 _ _ _ _ _ _ _ h _ _ _ hH (lv_sub hl [0, 1, 2, 3] rfl)
  have b99 : ∀ (w : Hp) (a0 : Nat) (x1 : Int32) (x2 : Int32) (x3 : Int32) (x4 : Int32), wp_X4_turn_b99 K  w a0 x1 x2 x3 x4 → ∀ (H : Heap) (locs : List Loc) (ls : Array Slot), hx_H G w s H locs → lv_has ls 5 [(0, va_rf (some a0)), (1, .int x1), (2, .int x2), (3, .int x3), (4, .int x4)] → W p l e (headSpec (ws9_X4_turn) rm_X4_turn).room s m args below meth c H locs (0) (0) (Q9_X4_turn below args s G K) (F0 m 99 ls []) := by
    intro w a0 x1 x2 x3 x4 h H locs ls hH hl
    refine hx_aload_n C0 dX4_turn_99 rfl (lv_at hl 0 rfl) ?_
    refine lv_iload hx hb dX4_turn_100 (lv_at hl 4 rfl) ?_
    refine lv_if_ne hx hb dX4_turn_102 (tgt := 135) (by decide) (fun c_1 => ?_) (fun c_1 => ?_)
    · have h := h.2 c_1
      refine W.widen (k := 0) (n := 0) (Nat.le_of_ble_eq_true rfl) (Nat.le_of_ble_eq_true rfl) ?_
      exact b135 _ _ _ _ _ _ _ h _ _ _ hH (lv_sub hl [0, 1, 2, 3, 4] rfl)
    · have h := h.1 c_1
      refine hx_aload_n C0 dX4_turn_105 rfl (lv_at hl 0 rfl) ?_
      refine hx_gR C0 hU hH (ci := 3) rfl in_X4 23 (by decide) q1094 (fun _ h9 => h9) h dX4_turn_106 (fun r_2 h => ?_)
      refine lv_iload_n hx hb dX4_turn_109 rfl (lv_at hl 1 rfl) ?_
      obtain ⟨b_3, rfl, h9⟩ := h
      have h := h9
      clear h9
      refine hx_aR C0 hU hH h dX4_turn_110 (fun r_4 h => ?_)
      refine lv_bipush (v := 15) hx hb dX4_turn_111 (by decide) ?_
      obtain ⟨b_5, rfl, h9⟩ := h
      have h := h9
      clear h9
      refine hx_aI C0 hU hH h dX4_turn_113 (fun i_6 h => ?_)
      refine lv_iconst (v := -1) hx hb dX4_turn_114 (by decide) ?_
      refine lv_icmp_eq hx hb dX4_turn_115 (tgt := 135) (by decide) (fun c_7 => ?_) (fun c_7 => ?_)
      · have h := h.1 c_7
        refine W.widen (k := 0) (n := 0) (Nat.le_of_ble_eq_true rfl) (Nat.le_of_ble_eq_true rfl) ?_
        exact b135 _ _ _ _ _ _ _ h _ _ _ hH (lv_sub hl [0, 1, 2, 3, 4] rfl)
      · have h := h.2 c_7
        refine hx_aload_n C0 dX4_turn_118 rfl (lv_at hl 0 rfl) ?_
        refine hx_gR C0 hU hH (ci := 3) rfl in_X4 23 (by decide) q1094 (fun _ h9 => h9) h dX4_turn_119 (fun r_8 h => ?_)
        refine lv_iload_n hx hb dX4_turn_122 rfl (lv_at hl 1 rfl) ?_
        obtain ⟨b_9, rfl, h9⟩ := h
        have h := h9
        clear h9
        refine hx_aR C0 hU hH h dX4_turn_123 (fun r_10 h => ?_)
        refine lv_bipush (v := 15) hx hb dX4_turn_124 (by decide) ?_
        obtain ⟨b_11, rfl, h9⟩ := h
        have h := h9
        clear h9
        refine hx_aI C0 hU hH h dX4_turn_126 (fun i_12 h => ?_)
        refine lv_iload_n hx hb dX4_turn_127 rfl (lv_at hl 2 rfl) ?_
        refine lv_icmp_eq hx hb dX4_turn_128 (tgt := 135) (by decide) (fun c_13 => ?_) (fun c_13 => ?_)
        · have h := h.1 c_13
          refine W.widen (k := 0) (n := 0) (Nat.le_of_ble_eq_true rfl) (Nat.le_of_ble_eq_true rfl) ?_
          exact b135 _ _ _ _ _ _ _ h _ _ _ hH (lv_sub hl [0, 1, 2, 3, 4] rfl)
        · have h := h.2 c_13
          refine lv_iconst (v := 3) hx hb dX4_turn_131 (by decide) ?_
          refine lv_goto hx hb dX4_turn_132 (tgt := 137) (by decide) ?_
          refine W.widen (k := 0) (n := 0) (Nat.le_of_ble_eq_true rfl) (Nat.le_of_ble_eq_true rfl) ?_
          exact b137 _ _ _ _ _ _ _ h _ _ _ hH (lv_sub hl [0, 1, 2, 3] rfl)
  have b50 : ∀ (w : Hp) (a0 : Nat) (x1 : Int32) (x2 : Int32) (x3 : Int32) (t0 : Int32), wp_X4_turn_b50 K  w a0 x1 x2 x3 t0 → ∀ (H : Heap) (locs : List Loc) (ls : Array Slot), hx_H G w s H locs → lv_has ls 5 [(0, va_rf (some a0)), (1, .int x1), (2, .int x2), (3, .int x3)] → W p l e (headSpec (ws9_X4_turn) rm_X4_turn).room s m args below meth c H locs (0) (0) (Q9_X4_turn below args s G K) (F0 m 50 ls [.int t0]) := by
    intro w a0 x1 x2 x3 t0 h H locs ls hH hl
    refine lv_istore hx hb dX4_turn_50 hl (by decide) (lv' := [(4, .int t0), (0, va_rf (some a0)), (1, .int x1), (2, .int x2), (3, .int x3)]) rfl (fun ls hl => ?_)
    refine lv_iload hx hb dX4_turn_52 (lv_at hl 0 rfl) ?_
    refine lv_if_ne hx hb dX4_turn_54 (tgt := 99) (by decide) (fun c_1 => ?_) (fun c_1 => ?_)
    · have h := h.2 c_1
      refine W.widen (k := 0) (n := 0) (Nat.le_of_ble_eq_true rfl) (Nat.le_of_ble_eq_true rfl) ?_
      exact b99 _ _ _ _ _ _ h _ _ _ hH (lv_sub hl [1, 2, 3, 4, 0] rfl)
    · have h := h.1 c_1
      refine hx_aload_n C0 dX4_turn_57 rfl (lv_at hl 1 rfl) ?_
      refine hx_gR C0 hU hH (ci := 3) rfl in_X4 23 (by decide) q1094 (fun _ h9 => h9) h dX4_turn_58 (fun r_2 h => ?_)
      refine lv_iload_n hx hb dX4_turn_61 rfl (lv_at hl 2 rfl) ?_
      obtain ⟨b_3, rfl, h9⟩ := h
      have h := h9
      clear h9
      refine hx_aR C0 hU hH h dX4_turn_62 (fun r_4 h => ?_)
      refine lv_iconst (v := 3) hx hb dX4_turn_63 (by decide) ?_
      refine lv_iload_n hx hb dX4_turn_64 rfl (lv_at hl 3 rfl) ?_
      refine lv_iadd hx hb dX4_turn_65 ?_
      obtain ⟨b_5, rfl, h9⟩ := h
      have h := h9
      clear h9
      refine hx_aI C0 hU hH h dX4_turn_66 (fun i_6 h => ?_)
      refine lv_i2l hx hb dX4_turn_67 rfl ?_
      refine lv_iload_n hx hb dX4_turn_68 rfl (lv_at hl 4 rfl) ?_
      refine lv_i2l hx hb dX4_turn_69 rfl ?_
      refine lv_ladd hx hb dX4_turn_70 ?_
      refine hx_aload_n C0 dX4_turn_71 rfl (lv_at hl 1 rfl) ?_
      refine hx_gR C0 hU hH (ci := 3) rfl in_X4 23 (by decide) q1094 (fun _ h9 => h9) h dX4_turn_72 (fun r_7 h => ?_)
      refine lv_iload_n hx hb dX4_turn_75 rfl (lv_at hl 2 rfl) ?_
      obtain ⟨b_8, rfl, h9⟩ := h
      have h := h9
      clear h9
      refine hx_aR C0 hU hH h dX4_turn_76 (fun r_9 h => ?_)
      refine lv_bipush (v := 9) hx hb dX4_turn_77 (by decide) ?_
      refine lv_iload_n hx hb dX4_turn_79 rfl (lv_at hl 3 rfl) ?_
      refine lv_iadd hx hb dX4_turn_80 ?_
      obtain ⟨b_10, rfl, h9⟩ := h
      have h := h9
      clear h9
      refine hx_aI C0 hU hH h dX4_turn_81 (fun i_11 h => ?_)
      refine lv_i2l hx hb dX4_turn_82 rfl ?_
      refine lv_lsub hx hb dX4_turn_83 ?_
      refine lv_ldc2 (v := -10000) hx hb C0.2.2.2.1 (hts _ q1364) dX4_turn_84 ?_
      refine lv_ldc2 (v := 10000) hx hb C0.2.2.2.1 (hts _ q1365) dX4_turn_87 ?_
      refine hx_Si C0 hU hH (As := [.long (((i_6.toInt64) + (x3.toInt64)) - (i_11.toInt64)), .long (-10000 : Int64), .long (10000 : Int64)]) (wk_X4_isBetween l h) (va_cwS 3 hts (lw_S q1162 q1163 q71 q1164) rfl rfl rfl (by decide +kernel) ⟨Nat.le_of_ble_eq_true rfl, Nat.le_of_ble_eq_true rfl⟩) rfl hl.1 rfl (Nat.le_of_ble_eq_true rfl) dX4_turn_90 ⟨Nat.le_of_ble_eq_true rfl, Nat.le_of_ble_eq_true rfl⟩ (fun i_12 w H locs hH h => ?_)
      refine lv_if_ne hx hb dX4_turn_93 (tgt := 99) (by decide) (fun c_13 => ?_) (fun c_13 => ?_)
      · have h := h.2 c_13
        refine W.widen (k := 0) (n := 0) (Nat.le_of_ble_eq_true rfl) (Nat.le_of_ble_eq_true rfl) ?_
        exact b99 _ _ _ _ _ _ h _ _ _ hH (lv_sub hl [1, 2, 3, 4, 0] rfl)
      · have h := h.1 c_13
        refine lv_iconst (v := 2) hx hb dX4_turn_96 (by decide) ?_
        refine lv_istore hx hb dX4_turn_97 hl (by decide) (lv' := [(4, .int (2 : Int32)), (0, va_rf (some a0)), (1, .int x1), (2, .int x2), (3, .int x3)]) rfl (fun ls hl => ?_)
        refine W.widen (k := 0) (n := 0) (Nat.le_of_ble_eq_true rfl) (Nat.le_of_ble_eq_true rfl) ?_
        exact b99 _ _ _ _ _ _ h _ _ _ hH (lv_sub hl [1, 2, 3, 4, 0] rfl)
  have b45 : ∀ (w : Hp) (a0 : Nat) (x1 : Int32) (x2 : Int32) (x3 : Int32), wp_X4_turn_b45 K  w a0 x1 x2 x3 → ∀ (H : Heap) (locs : List Loc) (ls : Array Slot), hx_H G w s H locs → lv_has ls 5 [(0, va_rf (some a0)), (1, .int x1), (2, .int x2), (3, .int x3)] → W p l e (headSpec (ws9_X4_turn) rm_X4_turn).room s m args below meth c H locs (0) (0) (Q9_X4_turn below args s G K) (F0 m 45 ls []) := by
    intro w a0 x1 x2 x3 h H locs ls hH hl
    refine lv_iconst (v := 2) hx hb dX4_turn_45 (by decide) ?_
    refine lv_goto hx hb dX4_turn_46 (tgt := 50) (by decide) ?_
    refine W.widen (k := 0) (n := 0) (Nat.le_of_ble_eq_true rfl) (Nat.le_of_ble_eq_true rfl) ?_
    exact b50 _ _ _ _ _ _ h _ _ _ hH (lv_sub hl [0, 1, 2, 3] rfl)
  refine hx_aload_n C0 dX4_turn_0 rfl (lv_at hl 0 rfl) ?_
  refine lv_iload_n hx hb dX4_turn_1 rfl (lv_at hl 1 rfl) ?_
  obtain ⟨ho, h⟩ := h
  refine hx_Vi C0 hU hH (As := [.int x1]) (wk_X4_isLetter l h) (cwV 1 hts (lw_V q1294 q1296 qs46 q71 q1297) rfl rfl rfl (by decide +kernel) ⟨Nat.le_of_ble_eq_true rfl, Nat.le_of_ble_eq_true rfl⟩) (hx_recv hU hH (ci := 3) rfl ho) rfl hl.1 rfl (Nat.le_of_ble_eq_true rfl) dX4_turn_2 ⟨Nat.le_of_ble_eq_true rfl, Nat.le_of_ble_eq_true rfl⟩ (fun i_1 w H locs hH h => ?_)
  refine lv_if_ne hx hb dX4_turn_5 (tgt := 12) (by decide) (fun c_2 => ?_) (fun c_2 => ?_)
  · have h := h.2 c_2
    refine hx_aload_n C0 dX4_turn_12 rfl (lv_at hl 0 rfl) ?_
    refine hx_gR C0 hU hH (ci := 3) rfl in_X4 23 (by decide) q1094 (fun _ h9 => h9) h dX4_turn_13 (fun r_3 h => ?_)
    refine lv_iload_n hx hb dX4_turn_16 rfl (lv_at hl 1 rfl) ?_
    obtain ⟨b_4, rfl, h9⟩ := h
    have h := h9
    clear h9
    refine hx_aR C0 hU hH h dX4_turn_17 (fun r_5 h => ?_)
    refine lv_iconst (v := 2) hx hb dX4_turn_18 (by decide) ?_
    obtain ⟨b_6, rfl, h9⟩ := h
    have h := h9
    clear h9
    refine hx_aI C0 hU hH h dX4_turn_19 (fun i_7 h => ?_)
    refine lv_iload_n hx hb dX4_turn_20 rfl (lv_at hl 2 rfl) ?_
    refine hx_Si C0 hU hH (As := [.int i_7, .int x2]) (wk_X4_canTurn l h) (va_cwS 2 hts (lw_S q1358 q1359 q71 q1360) rfl rfl rfl (by decide +kernel) ⟨Nat.le_of_ble_eq_true rfl, Nat.le_of_ble_eq_true rfl⟩) rfl hl.1 rfl (Nat.le_of_ble_eq_true rfl) dX4_turn_21 ⟨Nat.le_of_ble_eq_true rfl, Nat.le_of_ble_eq_true rfl⟩ (fun i_8 w H locs hH h => ?_)
    refine lv_if_eq hx hb dX4_turn_24 (tgt := 45) (by decide) (fun c_9 => ?_) (fun c_9 => ?_)
    · have h := h.1 c_9
      refine W.widen (k := 0) (n := 0) (Nat.le_of_ble_eq_true rfl) (Nat.le_of_ble_eq_true rfl) ?_
      exact b45 _ _ _ _ _ h _ _ _ hH (lv_sub hl [0, 1, 2, 3] rfl)
    · have h := h.2 c_9
      refine lv_iload_n hx hb dX4_turn_27 rfl (lv_at hl 3 rfl) ?_
      refine lv_if_eq hx hb dX4_turn_28 (tgt := 45) (by decide) (fun c_10 => ?_) (fun c_10 => ?_)
      · have h := h.1 c_10
        refine W.widen (k := 0) (n := 0) (Nat.le_of_ble_eq_true rfl) (Nat.le_of_ble_eq_true rfl) ?_
        exact b45 _ _ _ _ _ h _ _ _ hH (lv_sub hl [0, 1, 2, 3] rfl)
      · have h := h.2 c_10
        refine lv_iload_n hx hb dX4_turn_31 rfl (lv_at hl 3 rfl) ?_
        refine lv_i2l hx hb dX4_turn_32 rfl ?_
        refine lv_ldc2 (v := -500) hx hb C0.2.2.2.1 (hts _ q1362) dX4_turn_33 ?_
        refine lv_ldc2 (v := 500) hx hb C0.2.2.2.1 (hts _ q1363) dX4_turn_36 ?_
        refine hx_Si C0 hU hH (As := [.long (x3.toInt64), .long (-500 : Int64), .long (500 : Int64)]) (wk_X4_isBetween l h) (va_cwS 3 hts (lw_S q1162 q1163 q71 q1164) rfl rfl rfl (by decide +kernel) ⟨Nat.le_of_ble_eq_true rfl, Nat.le_of_ble_eq_true rfl⟩) rfl hl.1 rfl (Nat.le_of_ble_eq_true rfl) dX4_turn_39 ⟨Nat.le_of_ble_eq_true rfl, Nat.le_of_ble_eq_true rfl⟩ (fun i_11 w H locs hH h => ?_)
        refine lv_if_ne hx hb dX4_turn_42 (tgt := 49) (by decide) (fun c_12 => ?_) (fun c_12 => ?_)
        · have h := h.2 c_12
          refine lv_iconst (v := 0) hx hb dX4_turn_49 (by decide) ?_
          refine W.widen (k := 0) (n := 0) (Nat.le_of_ble_eq_true rfl) (Nat.le_of_ble_eq_true rfl) ?_
          exact b50 _ _ _ _ _ _ h _ _ _ hH (lv_sub hl [0, 1, 2, 3] rfl)
        · have h := h.1 c_12
          refine W.widen (k := 0) (n := 0) (Nat.le_of_ble_eq_true rfl) (Nat.le_of_ble_eq_true rfl) ?_
          exact b45 _ _ _ _ _ h _ _ _ hH (lv_sub hl [0, 1, 2, 3] rfl)
  · have h := h.1 c_2
    refine lv_iconst (v := 1) hx hb dX4_turn_8 (by decide) ?_
    refine lv_goto hx hb dX4_turn_9 (tgt := 50) (by decide) ?_
    refine W.widen (k := 0) (n := 0) (Nat.le_of_ble_eq_true rfl) (Nat.le_of_ble_eq_true rfl) ?_
    exact b50 _ _ _ _ _ _ h _ _ _ hH (lv_sub hl [0, 1, 2, 3] rfl)
def wp_X4_reroute_b30 (K : Hp → Int32 → Prop)  (w : Hp) (a0 : Nat) (x1 : Int32) (x2 : Int32) (t0 : Int32) (at1 : Nat) : Prop :=
  isO w at1 3 <| wp_X4_isWrong w at1 t0 fun w i_1 => br (i_1 = 0) (gR w a0 3 23 fun r_3 => dR r_3 fun b_4 => aR w b_4 x1 fun r_5 => dR r_5 fun b_6 => aI w b_6 (0 : Int32) fun i_7 => gR w a0 3 23 fun r_8 => dR r_8 fun b_9 => aR w b_9 x1 fun r_10 => dR r_10 fun b_11 => sI w b_11 (0 : Int32) x2 fun w => K w i_7) (K w (0 : Int32))
def wp_X4_reroute (w : Hp) (a0 : Nat) (x1 : Int32) (x2 : Int32) (K : Hp → Int32 → Prop) : Prop :=
  isO w a0 3 <| wp_X4_isLetter w a0 x1 fun w i_1 => br (i_1 = 0) (wp_X4_reroute_b30 K w a0 x1 x2 (1 : Int32) a0) (wp_X4_isBetween w (x2.toInt64) (1 : Int64) (99 : Int64) fun w i_3 => br (i_3 = 0) (wp_X4_reroute_b30 K w a0 x1 x2 (2 : Int32) a0) (wp_X4_reroute_b30 K w a0 x1 x2 (0 : Int32) a0))
abbrev rm_X4_reroute : Room := { frames := 2, cells := 0, slots := 0, locals := 46 }
abbrev ws9_X4_reroute : List Cond := ws_ yX4_reroute cX4_reroute 4 (Option.some Jvm.ClassFile.FieldType.int)
abbrev Q9_X4_reroute (below : List Frame) (args : Array Value) (s : State) (G : hG) (K : Hp → Int32 → Prop) : State → Prop := MQ below (hx_Qi G K) args s 0 0 (hx_A G)
set_option maxHeartbeats 4000000 in
set_option maxRecDepth 100000 in
theorem wk_X4_reroute (l : Launch) {G : hG} {w : Hp} {a0 : Nat} {x1 : Int32} {x2 : Int32} {K : Hp → Int32 → Prop} (h : wp_X4_reroute w a0 x1 x2 K) : hx_Mi l yX4_reroute (ws9_X4_reroute) rm_X4_reroute G w [.ref a0, .int x1, .int x2] K 0 0 := by
  refine Met.ofW (cc := cX4_reroute) (maxL := 4) (ret := (Option.some Jvm.ClassFile.FieldType.int)) (by decide +kernel) rfl ?_
  intro p e s m args below meth c s₁ B hml hv
  refine hx_in (own := RX4) (av := [.ref a0, .int x1, .int x2]) (vl := [(0, va_rf (some a0)), (1, .int x1), (2, .int x2)]) rfl rfl (Nat.le_of_ble_eq_true rfl) rfl B hml hv ?_
  intro C0 hU hH hr hlocks hin ls hl
  have hx := C0.1
  have hb := C0.2.1
  have hts := C0.2.2.2.2
  have b30 : ∀ (w : Hp) (a0 : Nat) (x1 : Int32) (x2 : Int32) (t0 : Int32) (at1 : Nat), wp_X4_reroute_b30 K  w a0 x1 x2 t0 at1 → ∀ (H : Heap) (locs : List Loc) (ls : Array Slot), hx_H G w s H locs → lv_has ls 4 [(0, va_rf (some a0)), (1, .int x1), (2, .int x2)] → W p l e (headSpec (ws9_X4_reroute) rm_X4_reroute).room s m args below meth c H locs (0) (0) (Q9_X4_reroute below args s G K) (F0 m 30 ls [.int t0, va_rf (some at1)]) := by
    intro w a0 x1 x2 t0 at1 h H locs ls hH hl
    obtain ⟨ho, h⟩ := h
    refine hx_Vi C0 hU hH (As := [.int t0]) (wk_X4_isWrong l h) (cwV 1 hts (lw_V q1166 q1168 qs34 q71 q1169) rfl rfl rfl (by decide +kernel) ⟨Nat.le_of_ble_eq_true rfl, Nat.le_of_ble_eq_true rfl⟩) (hx_recv hU hH (ci := 3) rfl ho) rfl hl.1 rfl (Nat.le_of_ble_eq_true rfl) dX4_reroute_30 ⟨Nat.le_of_ble_eq_true rfl, Nat.le_of_ble_eq_true rfl⟩ (fun i_1 w H locs hH h => ?_)
    refine lv_if_eq hx hb dX4_reroute_33 (tgt := 38) (by decide) (fun c_2 => ?_) (fun c_2 => ?_)
    · have h := h.1 c_2
      refine hx_aload_n C0 dX4_reroute_38 rfl (lv_at hl 0 rfl) ?_
      refine hx_gR C0 hU hH (ci := 3) rfl in_X4 23 (by decide) q1094 (fun _ h9 => h9) h dX4_reroute_39 (fun r_3 h => ?_)
      refine lv_iload_n hx hb dX4_reroute_42 rfl (lv_at hl 1 rfl) ?_
      obtain ⟨b_4, rfl, h9⟩ := h
      have h := h9
      clear h9
      refine hx_aR C0 hU hH h dX4_reroute_43 (fun r_5 h => ?_)
      refine lv_iconst (v := 0) hx hb dX4_reroute_44 (by decide) ?_
      obtain ⟨b_6, rfl, h9⟩ := h
      have h := h9
      clear h9
      refine hx_aI C0 hU hH h dX4_reroute_45 (fun i_7 h => ?_)
      refine lv_istore_n hx hb dX4_reroute_46 rfl hl (by decide) (lv' := [(3, .int i_7), (0, va_rf (some a0)), (1, .int x1), (2, .int x2)]) rfl (fun ls hl => ?_)
      refine hx_aload_n C0 dX4_reroute_47 rfl (lv_at hl 1 rfl) ?_
      refine hx_gR C0 hU hH (ci := 3) rfl in_X4 23 (by decide) q1094 (fun _ h9 => h9) h dX4_reroute_48 (fun r_8 h => ?_)
      refine lv_iload_n hx hb dX4_reroute_51 rfl (lv_at hl 2 rfl) ?_
      obtain ⟨b_9, rfl, h9⟩ := h
      have h := h9
      clear h9
      refine hx_aR C0 hU hH h dX4_reroute_52 (fun r_10 h => ?_)
      refine lv_iconst (v := 0) hx hb dX4_reroute_53 (by decide) ?_
      refine lv_iload_n hx hb dX4_reroute_54 rfl (lv_at hl 3 rfl) ?_
      obtain ⟨b_11, rfl, h9⟩ := h
      have h := h9
      clear h9
      refine hx_sI C0 hU hH h dX4_reroute_55 (fun w H locs hH h => ?_)
      refine lv_iload_n hx hb dX4_reroute_56 rfl (lv_at hl 0 rfl) ?_
      exact hx_reti C0 hH hr hlocks h (Nat.le_of_ble_eq_true rfl) (Nat.le_of_ble_eq_true rfl) dX4_reroute_57
    · have h := h.2 c_2
      refine lv_iconst (v := 0) hx hb dX4_reroute_36 (by decide) ?_
      exact hx_reti C0 hH hr hlocks h (Nat.le_of_ble_eq_true rfl) (Nat.le_of_ble_eq_true rfl) dX4_reroute_37
  refine hx_aload_n C0 dX4_reroute_0 rfl (lv_at hl 0 rfl) ?_
  refine hx_aload_n C0 dX4_reroute_1 rfl (lv_at hl 0 rfl) ?_
  refine lv_iload_n hx hb dX4_reroute_2 rfl (lv_at hl 1 rfl) ?_
  obtain ⟨ho, h⟩ := h
  refine hx_Vi C0 hU hH (As := [.int x1]) (wk_X4_isLetter l h) (cwV 1 hts (lw_V q1294 q1296 qs46 q71 q1297) rfl rfl rfl (by decide +kernel) ⟨Nat.le_of_ble_eq_true rfl, Nat.le_of_ble_eq_true rfl⟩) (hx_recv hU hH (ci := 3) rfl ho) rfl hl.1 rfl (Nat.le_of_ble_eq_true rfl) dX4_reroute_3 ⟨Nat.le_of_ble_eq_true rfl, Nat.le_of_ble_eq_true rfl⟩ (fun i_1 w H locs hH h => ?_)
  refine lv_if_ne hx hb dX4_reroute_6 (tgt := 13) (by decide) (fun c_2 => ?_) (fun c_2 => ?_)
  · have h := h.2 c_2
    refine lv_iload_n hx hb dX4_reroute_13 rfl (lv_at hl 2 rfl) ?_
    refine lv_i2l hx hb dX4_reroute_14 rfl ?_
    refine lv_lconst (v := 1) hx hb dX4_reroute_15 (by decide) ?_
    refine lv_ldc2 (v := 99) hx hb C0.2.2.2.1 (hts _ q1174) dX4_reroute_16 ?_
    refine hx_Si C0 hU hH (As := [.long (x2.toInt64), .long (1 : Int64), .long (99 : Int64)]) (wk_X4_isBetween l h) (va_cwS 3 hts (lw_S q1162 q1163 q71 q1164) rfl rfl rfl (by decide +kernel) ⟨Nat.le_of_ble_eq_true rfl, Nat.le_of_ble_eq_true rfl⟩) rfl hl.1 rfl (Nat.le_of_ble_eq_true rfl) dX4_reroute_19 ⟨Nat.le_of_ble_eq_true rfl, Nat.le_of_ble_eq_true rfl⟩ (fun i_3 w H locs hH h => ?_)
    refine lv_if_ne hx hb dX4_reroute_22 (tgt := 29) (by decide) (fun c_4 => ?_) (fun c_4 => ?_)
    · have h := h.2 c_4
      refine lv_iconst (v := 0) hx hb dX4_reroute_29 (by decide) ?_
      refine W.widen (k := 0) (n := 0) (Nat.le_of_ble_eq_true rfl) (Nat.le_of_ble_eq_true rfl) ?_
      exact b30 _ _ _ _ _ _ h _ _ _ hH (lv_sub hl [0, 1, 2] rfl)
    · have h := h.1 c_4
      refine lv_iconst (v := 2) hx hb dX4_reroute_25 (by decide) ?_
      refine lv_goto hx hb dX4_reroute_26 (tgt := 30) (by decide) ?_
      refine W.widen (k := 0) (n := 0) (Nat.le_of_ble_eq_true rfl) (Nat.le_of_ble_eq_true rfl) ?_
      exact b30 _ _ _ _ _ _ h _ _ _ hH (lv_sub hl [0, 1, 2] rfl)
  · have h := h.1 c_2
    refine lv_iconst (v := 1) hx hb dX4_reroute_9 (by decide) ?_
    refine lv_goto hx hb dX4_reroute_10 (tgt := 30) (by decide) ?_
    refine W.widen (k := 0) (n := 0) (Nat.le_of_ble_eq_true rfl) (Nat.le_of_ble_eq_true rfl) ?_
    exact b30 _ _ _ _ _ _ h _ _ _ hH (lv_sub hl [0, 1, 2] rfl)
def wp_X4_later_b14 (K : Hp → Int32 → Prop)  (w : Hp) (a0 : Nat) (x1 : Int32) (t0 : Int32) (at1 : Nat) : Prop :=
  isO w at1 3 <| wp_X4_isWrong w at1 t0 fun w i_1 => br (i_1 = 0) (gR w a0 3 23 fun r_3 => dR r_3 fun b_4 => aR w b_4 x1 fun r_5 => isO w a0 3 <| wp_X4_take w a0 x1 fun w => gR w a0 3 23 fun r_6 => gI w a0 3 24 fun i_7 => pV w a0 3 24 (.int (i_7 + (1 : Int32))) fun w => dR r_6 fun b_8 => sR w b_8 i_7 r_5 fun w => gI w a0 3 24 fun i_9 => K w (i_9 - (1 : Int32))) (K w (0 : Int32))
def wp_X4_later (w : Hp) (a0 : Nat) (x1 : Int32) (K : Hp → Int32 → Prop) : Prop :=
  isO w a0 3 <| wp_X4_isLetter w a0 x1 fun w i_1 => br (i_1 = 0) (wp_X4_later_b14 K w a0 x1 (1 : Int32) a0) (wp_X4_later_b14 K w a0 x1 (0 : Int32) a0)
abbrev rm_X4_later : Room := { frames := 2, cells := 0, slots := 0, locals := 46 }
abbrev ws9_X4_later : List Cond := ws_ yX4_later cX4_later 3 (Option.some Jvm.ClassFile.FieldType.int)
abbrev Q9_X4_later (below : List Frame) (args : Array Value) (s : State) (G : hG) (K : Hp → Int32 → Prop) : State → Prop := MQ below (hx_Qi G K) args s 0 0 (hx_A G)
set_option maxHeartbeats 4000000 in
set_option maxRecDepth 100000 in
theorem wk_X4_later (l : Launch) {G : hG} {w : Hp} {a0 : Nat} {x1 : Int32} {K : Hp → Int32 → Prop} (h : wp_X4_later w a0 x1 K) : hx_Mi l yX4_later (ws9_X4_later) rm_X4_later G w [.ref a0, .int x1] K 0 0 := by
  refine Met.ofW (cc := cX4_later) (maxL := 3) (ret := (Option.some Jvm.ClassFile.FieldType.int)) (by decide +kernel) rfl ?_
  intro p e s m args below meth c s₁ B hml hv
  refine hx_in (own := RX4) (av := [.ref a0, .int x1]) (vl := [(0, va_rf (some a0)), (1, .int x1)]) rfl rfl (Nat.le_of_ble_eq_true rfl) rfl B hml hv ?_
  intro C0 hU hH hr hlocks hin ls hl
  have hx := C0.1
  have hb := C0.2.1
  have hts := C0.2.2.2.2
  have b14 : ∀ (w : Hp) (a0 : Nat) (x1 : Int32) (t0 : Int32) (at1 : Nat), wp_X4_later_b14 K  w a0 x1 t0 at1 → ∀ (H : Heap) (locs : List Loc) (ls : Array Slot), hx_H G w s H locs → lv_has ls 3 [(0, va_rf (some a0)), (1, .int x1)] → W p l e (headSpec (ws9_X4_later) rm_X4_later).room s m args below meth c H locs (0) (0) (Q9_X4_later below args s G K) (F0 m 14 ls [.int t0, va_rf (some at1)]) := by
    intro w a0 x1 t0 at1 h H locs ls hH hl
    obtain ⟨ho, h⟩ := h
    refine hx_Vi C0 hU hH (As := [.int t0]) (wk_X4_isWrong l h) (cwV 1 hts (lw_V q1166 q1168 qs34 q71 q1169) rfl rfl rfl (by decide +kernel) ⟨Nat.le_of_ble_eq_true rfl, Nat.le_of_ble_eq_true rfl⟩) (hx_recv hU hH (ci := 3) rfl ho) rfl hl.1 rfl (Nat.le_of_ble_eq_true rfl) dX4_later_14 ⟨Nat.le_of_ble_eq_true rfl, Nat.le_of_ble_eq_true rfl⟩ (fun i_1 w H locs hH h => ?_)
    refine lv_if_eq hx hb dX4_later_17 (tgt := 22) (by decide) (fun c_2 => ?_) (fun c_2 => ?_)
    · have h := h.1 c_2
      refine hx_aload_n C0 dX4_later_22 rfl (lv_at hl 0 rfl) ?_
      refine hx_gR C0 hU hH (ci := 3) rfl in_X4 23 (by decide) q1094 (fun _ h9 => h9) h dX4_later_23 (fun r_3 h => ?_)
      refine lv_iload_n hx hb dX4_later_26 rfl (lv_at hl 1 rfl) ?_
      obtain ⟨b_4, rfl, h9⟩ := h
      have h := h9
      clear h9
      refine hx_aR C0 hU hH h dX4_later_27 (fun r_5 h => ?_)
      refine hx_astore_n C0 dX4_later_28 rfl hl (by decide) (lv' := [(2, va_rf r_5), (0, va_rf (some a0)), (1, .int x1)]) rfl (fun ls hl => ?_)
      refine hx_aload_n C0 dX4_later_29 rfl (lv_at hl 1 rfl) ?_
      refine lv_iload_n hx hb dX4_later_30 rfl (lv_at hl 2 rfl) ?_
      obtain ⟨ho, h⟩ := h
      refine hx_Vv C0 hU hH (As := [.int x1]) (wk_X4_take l h) (cwV 1 hts (lw_V q1298 q1300 qs47 q71 q1301) rfl rfl rfl (by decide +kernel) ⟨Nat.le_of_ble_eq_true rfl, Nat.le_of_ble_eq_true rfl⟩) (hx_recv hU hH (ci := 3) rfl ho) rfl hl.1 rfl (Nat.le_of_ble_eq_true rfl) dX4_later_31 ⟨Nat.le_of_ble_eq_true rfl, Nat.le_of_ble_eq_true rfl⟩ (fun w H locs hH h => ?_)
      refine hx_aload_n C0 dX4_later_34 rfl (lv_at hl 1 rfl) ?_
      refine hx_gR C0 hU hH (ci := 3) rfl in_X4 23 (by decide) q1094 (fun _ h9 => h9) h dX4_later_35 (fun r_6 h => ?_)
      refine hx_aload_n C0 dX4_later_38 rfl (lv_at hl 1 rfl) ?_
      refine lv_dup hx hb dX4_later_39 rfl ?_
      refine hx_gI C0 hU hH (ci := 3) rfl in_X4 24 (by decide) q1095 (fun _ h9 => h9) h dX4_later_40 (fun i_7 h => ?_)
      refine lv_dup_x1 hx hb dX4_later_43 rfl rfl ?_
      refine lv_iconst (v := 1) hx hb dX4_later_44 (by decide) ?_
      refine lv_iadd hx hb dX4_later_45 ?_
      refine hx_pV C0 hU hH (ci := 3) rfl in_X4 tyX4 tyX4_ok nmX4 24 (by decide) q1095 (fun _ h9 => h9) (Or.inl rfl) rfl rfl h dX4_later_46 (fun w H locs hH h => ?_)
      refine hx_aload_n C0 dX4_later_49 rfl (lv_at hl 0 rfl) ?_
      obtain ⟨b_8, rfl, h9⟩ := h
      have h := h9
      clear h9
      refine hx_sR C0 hU hH h dX4_later_50 (fun w H locs hH h => ?_)
      refine hx_aload_n C0 dX4_later_51 rfl (lv_at hl 1 rfl) ?_
      refine hx_gI C0 hU hH (ci := 3) rfl in_X4 24 (by decide) q1095 (fun _ h9 => h9) h dX4_later_52 (fun i_9 h => ?_)
      refine lv_iconst (v := 1) hx hb dX4_later_55 (by decide) ?_
      refine lv_isub hx hb dX4_later_56 ?_
      exact hx_reti C0 hH hr hlocks h (Nat.le_of_ble_eq_true rfl) (Nat.le_of_ble_eq_true rfl) dX4_later_57
    · have h := h.2 c_2
      refine lv_iconst (v := 0) hx hb dX4_later_20 (by decide) ?_
      exact hx_reti C0 hH hr hlocks h (Nat.le_of_ble_eq_true rfl) (Nat.le_of_ble_eq_true rfl) dX4_later_21
  refine hx_aload_n C0 dX4_later_0 rfl (lv_at hl 0 rfl) ?_
  refine hx_aload_n C0 dX4_later_1 rfl (lv_at hl 0 rfl) ?_
  refine lv_iload_n hx hb dX4_later_2 rfl (lv_at hl 1 rfl) ?_
  obtain ⟨ho, h⟩ := h
  refine hx_Vi C0 hU hH (As := [.int x1]) (wk_X4_isLetter l h) (cwV 1 hts (lw_V q1294 q1296 qs46 q71 q1297) rfl rfl rfl (by decide +kernel) ⟨Nat.le_of_ble_eq_true rfl, Nat.le_of_ble_eq_true rfl⟩) (hx_recv hU hH (ci := 3) rfl ho) rfl hl.1 rfl (Nat.le_of_ble_eq_true rfl) dX4_later_3 ⟨Nat.le_of_ble_eq_true rfl, Nat.le_of_ble_eq_true rfl⟩ (fun i_1 w H locs hH h => ?_)
  refine lv_if_eq hx hb dX4_later_6 (tgt := 13) (by decide) (fun c_2 => ?_) (fun c_2 => ?_)
  · have h := h.1 c_2
    refine lv_iconst (v := 1) hx hb dX4_later_13 (by decide) ?_
    refine W.widen (k := 0) (n := 0) (Nat.le_of_ble_eq_true rfl) (Nat.le_of_ble_eq_true rfl) ?_
    exact b14 _ _ _ _ _ h _ _ _ hH (lv_sub hl [0, 1] rfl)
  · have h := h.2 c_2
    refine lv_iconst (v := 0) hx hb dX4_later_9 (by decide) ?_
    refine lv_goto hx hb dX4_later_10 (tgt := 14) (by decide) ?_
    refine W.widen (k := 0) (n := 0) (Nat.le_of_ble_eq_true rfl) (Nat.le_of_ble_eq_true rfl) ?_
    exact b14 _ _ _ _ _ h _ _ _ hH (lv_sub hl [0, 1] rfl)
def wp_X4_now (w : Hp) (a0 : Nat) (K : Hp → Int32 → Prop) : Prop :=
  gI w a0 3 0 fun i_1 => K w i_1
abbrev rm_X4_now : Room := { frames := 0, cells := 0, slots := 0, locals := 0 }
abbrev ws9_X4_now : List Cond := ws_ yX4_now cX4_now 1 (Option.some Jvm.ClassFile.FieldType.int)
abbrev Q9_X4_now (below : List Frame) (args : Array Value) (s : State) (G : hG) (K : Hp → Int32 → Prop) : State → Prop := MQ below (hx_Qi G K) args s 0 0 (hx_A G)
set_option maxHeartbeats 4000000 in
set_option maxRecDepth 100000 in
theorem wk_X4_now (l : Launch) {G : hG} {w : Hp} {a0 : Nat} {K : Hp → Int32 → Prop} (h : wp_X4_now w a0 K) : hx_Mi l yX4_now (ws9_X4_now) rm_X4_now G w [.ref a0] K 0 0 := by
  refine Met.ofW (cc := cX4_now) (maxL := 1) (ret := (Option.some Jvm.ClassFile.FieldType.int)) (by decide +kernel) rfl ?_
  intro p e s m args below meth c s₁ B hml hv
  refine hx_in (own := RX4) (av := [.ref a0]) (vl := [(0, va_rf (some a0))]) rfl rfl (Nat.le_of_ble_eq_true rfl) rfl B hml hv ?_
  intro C0 hU hH hr hlocks hin ls hl
  have hx := C0.1
  have hb := C0.2.1
  have hts := C0.2.2.2.2
  refine hx_aload_n C0 dX4_now_0 rfl (lv_at hl 0 rfl) ?_
  refine hx_gI C0 hU hH (ci := 3) rfl in_X4 0 (by decide) q1071 (fun _ h9 => h9) h dX4_now_1 (fun i_1 h => ?_)
  exact hx_reti C0 hH hr hlocks h (Nat.le_of_ble_eq_true rfl) (Nat.le_of_ble_eq_true rfl) dX4_now_4
def wp_X4_letters (w : Hp) (a0 : Nat) (K : Hp → Int32 → Prop) : Prop :=
  gI w a0 3 24 fun i_1 => K w i_1
abbrev rm_X4_letters : Room := { frames := 0, cells := 0, slots := 0, locals := 0 }
abbrev ws9_X4_letters : List Cond := ws_ yX4_letters cX4_letters 1 (Option.some Jvm.ClassFile.FieldType.int)
abbrev Q9_X4_letters (below : List Frame) (args : Array Value) (s : State) (G : hG) (K : Hp → Int32 → Prop) : State → Prop := MQ below (hx_Qi G K) args s 0 0 (hx_A G)
set_option maxHeartbeats 4000000 in
set_option maxRecDepth 100000 in
theorem wk_X4_letters (l : Launch) {G : hG} {w : Hp} {a0 : Nat} {K : Hp → Int32 → Prop} (h : wp_X4_letters w a0 K) : hx_Mi l yX4_letters (ws9_X4_letters) rm_X4_letters G w [.ref a0] K 0 0 := by
  refine Met.ofW (cc := cX4_letters) (maxL := 1) (ret := (Option.some Jvm.ClassFile.FieldType.int)) (by decide +kernel) rfl ?_
  intro p e s m args below meth c s₁ B hml hv
  refine hx_in (own := RX4) (av := [.ref a0]) (vl := [(0, va_rf (some a0))]) rfl rfl (Nat.le_of_ble_eq_true rfl) rfl B hml hv ?_
  intro C0 hU hH hr hlocks hin ls hl
  have hx := C0.1
  have hb := C0.2.1
  have hts := C0.2.2.2.2
  refine hx_aload_n C0 dX4_letters_0 rfl (lv_at hl 0 rfl) ?_
  refine hx_gI C0 hU hH (ci := 3) rfl in_X4 24 (by decide) q1095 (fun _ h9 => h9) h dX4_letters_1 (fun i_1 h => ?_)
  exact hx_reti C0 hH hr hlocks h (Nat.le_of_ble_eq_true rfl) (Nat.le_of_ble_eq_true rfl) dX4_letters_4
def wp_X4_letter_b30 (K : Hp → Int32 → Prop)  (w : Hp) (a0 : Nat) (x1 : Int32) (x2 : Int32) (t0 : Int32) (at1 : Nat) : Prop :=
  isO w at1 3 <| wp_X4_isWrong w at1 t0 fun w i_1 => br (i_1 = 0) (gR w a0 3 23 fun r_3 => dR r_3 fun b_4 => aR w b_4 x1 fun r_5 => dR r_5 fun b_6 => aI w b_6 x2 fun i_7 => K w i_7) (K w (0 : Int32))
def wp_X4_letter (w : Hp) (a0 : Nat) (x1 : Int32) (x2 : Int32) (K : Hp → Int32 → Prop) : Prop :=
  isO w a0 3 <| wp_X4_isLetter w a0 x1 fun w i_1 => br (i_1 = 0) (wp_X4_letter_b30 K w a0 x1 x2 (1 : Int32) a0) (wp_X4_isBetween w (x2.toInt64) (0 : Int64) (8 : Int64) fun w i_3 => br (i_3 = 0) (wp_X4_letter_b30 K w a0 x1 x2 (2 : Int32) a0) (wp_X4_letter_b30 K w a0 x1 x2 (0 : Int32) a0))
abbrev rm_X4_letter : Room := { frames := 2, cells := 0, slots := 0, locals := 46 }
abbrev ws9_X4_letter : List Cond := ws_ yX4_letter cX4_letter 3 (Option.some Jvm.ClassFile.FieldType.int)
abbrev Q9_X4_letter (below : List Frame) (args : Array Value) (s : State) (G : hG) (K : Hp → Int32 → Prop) : State → Prop := MQ below (hx_Qi G K) args s 0 0 (hx_A G)
set_option maxHeartbeats 4000000 in
set_option maxRecDepth 100000 in
theorem wk_X4_letter (l : Launch) {G : hG} {w : Hp} {a0 : Nat} {x1 : Int32} {x2 : Int32} {K : Hp → Int32 → Prop} (h : wp_X4_letter w a0 x1 x2 K) : hx_Mi l yX4_letter (ws9_X4_letter) rm_X4_letter G w [.ref a0, .int x1, .int x2] K 0 0 := by
  refine Met.ofW (cc := cX4_letter) (maxL := 3) (ret := (Option.some Jvm.ClassFile.FieldType.int)) (by decide +kernel) rfl ?_
  intro p e s m args below meth c s₁ B hml hv
  refine hx_in (own := RX4) (av := [.ref a0, .int x1, .int x2]) (vl := [(0, va_rf (some a0)), (1, .int x1), (2, .int x2)]) rfl rfl (Nat.le_of_ble_eq_true rfl) rfl B hml hv ?_
  intro C0 hU hH hr hlocks hin ls hl
  have hx := C0.1
  have hb := C0.2.1
  have hts := C0.2.2.2.2
  have b30 : ∀ (w : Hp) (a0 : Nat) (x1 : Int32) (x2 : Int32) (t0 : Int32) (at1 : Nat), wp_X4_letter_b30 K  w a0 x1 x2 t0 at1 → ∀ (H : Heap) (locs : List Loc) (ls : Array Slot), hx_H G w s H locs → lv_has ls 3 [(0, va_rf (some a0)), (1, .int x1), (2, .int x2)] → W p l e (headSpec (ws9_X4_letter) rm_X4_letter).room s m args below meth c H locs (0) (0) (Q9_X4_letter below args s G K) (F0 m 30 ls [.int t0, va_rf (some at1)]) := by
    intro w a0 x1 x2 t0 at1 h H locs ls hH hl
    obtain ⟨ho, h⟩ := h
    refine hx_Vi C0 hU hH (As := [.int t0]) (wk_X4_isWrong l h) (cwV 1 hts (lw_V q1166 q1168 qs34 q71 q1169) rfl rfl rfl (by decide +kernel) ⟨Nat.le_of_ble_eq_true rfl, Nat.le_of_ble_eq_true rfl⟩) (hx_recv hU hH (ci := 3) rfl ho) rfl hl.1 rfl (Nat.le_of_ble_eq_true rfl) dX4_letter_30 ⟨Nat.le_of_ble_eq_true rfl, Nat.le_of_ble_eq_true rfl⟩ (fun i_1 w H locs hH h => ?_)
    refine lv_if_eq hx hb dX4_letter_33 (tgt := 38) (by decide) (fun c_2 => ?_) (fun c_2 => ?_)
    · have h := h.1 c_2
      refine hx_aload_n C0 dX4_letter_38 rfl (lv_at hl 0 rfl) ?_
      refine hx_gR C0 hU hH (ci := 3) rfl in_X4 23 (by decide) q1094 (fun _ h9 => h9) h dX4_letter_39 (fun r_3 h => ?_)
      refine lv_iload_n hx hb dX4_letter_42 rfl (lv_at hl 1 rfl) ?_
      obtain ⟨b_4, rfl, h9⟩ := h
      have h := h9
      clear h9
      refine hx_aR C0 hU hH h dX4_letter_43 (fun r_5 h => ?_)
      refine lv_iload_n hx hb dX4_letter_44 rfl (lv_at hl 2 rfl) ?_
      obtain ⟨b_6, rfl, h9⟩ := h
      have h := h9
      clear h9
      refine hx_aI C0 hU hH h dX4_letter_45 (fun i_7 h => ?_)
      exact hx_reti C0 hH hr hlocks h (Nat.le_of_ble_eq_true rfl) (Nat.le_of_ble_eq_true rfl) dX4_letter_46
    · have h := h.2 c_2
      refine lv_iconst (v := 0) hx hb dX4_letter_36 (by decide) ?_
      exact hx_reti C0 hH hr hlocks h (Nat.le_of_ble_eq_true rfl) (Nat.le_of_ble_eq_true rfl) dX4_letter_37
  refine hx_aload_n C0 dX4_letter_0 rfl (lv_at hl 0 rfl) ?_
  refine hx_aload_n C0 dX4_letter_1 rfl (lv_at hl 0 rfl) ?_
  refine lv_iload_n hx hb dX4_letter_2 rfl (lv_at hl 1 rfl) ?_
  obtain ⟨ho, h⟩ := h
  refine hx_Vi C0 hU hH (As := [.int x1]) (wk_X4_isLetter l h) (cwV 1 hts (lw_V q1294 q1296 qs46 q71 q1297) rfl rfl rfl (by decide +kernel) ⟨Nat.le_of_ble_eq_true rfl, Nat.le_of_ble_eq_true rfl⟩) (hx_recv hU hH (ci := 3) rfl ho) rfl hl.1 rfl (Nat.le_of_ble_eq_true rfl) dX4_letter_3 ⟨Nat.le_of_ble_eq_true rfl, Nat.le_of_ble_eq_true rfl⟩ (fun i_1 w H locs hH h => ?_)
  refine lv_if_ne hx hb dX4_letter_6 (tgt := 13) (by decide) (fun c_2 => ?_) (fun c_2 => ?_)
  · have h := h.2 c_2
    refine lv_iload_n hx hb dX4_letter_13 rfl (lv_at hl 2 rfl) ?_
    refine lv_i2l hx hb dX4_letter_14 rfl ?_
    refine lv_lconst (v := 0) hx hb dX4_letter_15 (by decide) ?_
    refine lv_ldc2 (v := 8) hx hb C0.2.2.2.1 (hts _ q1188) dX4_letter_16 ?_
    refine hx_Si C0 hU hH (As := [.long (x2.toInt64), .long (0 : Int64), .long (8 : Int64)]) (wk_X4_isBetween l h) (va_cwS 3 hts (lw_S q1162 q1163 q71 q1164) rfl rfl rfl (by decide +kernel) ⟨Nat.le_of_ble_eq_true rfl, Nat.le_of_ble_eq_true rfl⟩) rfl hl.1 rfl (Nat.le_of_ble_eq_true rfl) dX4_letter_19 ⟨Nat.le_of_ble_eq_true rfl, Nat.le_of_ble_eq_true rfl⟩ (fun i_3 w H locs hH h => ?_)
    refine lv_if_ne hx hb dX4_letter_22 (tgt := 29) (by decide) (fun c_4 => ?_) (fun c_4 => ?_)
    · have h := h.2 c_4
      refine lv_iconst (v := 0) hx hb dX4_letter_29 (by decide) ?_
      refine W.widen (k := 0) (n := 0) (Nat.le_of_ble_eq_true rfl) (Nat.le_of_ble_eq_true rfl) ?_
      exact b30 _ _ _ _ _ _ h _ _ _ hH (lv_sub hl [0, 1, 2] rfl)
    · have h := h.1 c_4
      refine lv_iconst (v := 2) hx hb dX4_letter_25 (by decide) ?_
      refine lv_goto hx hb dX4_letter_26 (tgt := 30) (by decide) ?_
      refine W.widen (k := 0) (n := 0) (Nat.le_of_ble_eq_true rfl) (Nat.le_of_ble_eq_true rfl) ?_
      exact b30 _ _ _ _ _ _ h _ _ _ hH (lv_sub hl [0, 1, 2] rfl)
  · have h := h.1 c_2
    refine lv_iconst (v := 1) hx hb dX4_letter_9 (by decide) ?_
    refine lv_goto hx hb dX4_letter_10 (tgt := 30) (by decide) ?_
    refine W.widen (k := 0) (n := 0) (Nat.le_of_ble_eq_true rfl) (Nat.le_of_ble_eq_true rfl) ?_
    exact b30 _ _ _ _ _ _ h _ _ _ hH (lv_sub hl [0, 1, 2] rfl)
def wp_X4_wasTurned (w : Hp) (a0 : Nat) (a1 : Nat) (K : Hp → Int32 → Prop) : Prop :=
  aI w a1 (15 : Int32) fun i_1 => br (i_1 = (-1 : Int32)) (K w (0 : Int32)) (aI w a1 (15 : Int32) fun i_3 => aI w a1 ((3 : Int32) + i_3) fun i_4 => aI w a1 (15 : Int32) fun i_5 => aI w a1 ((9 : Int32) + i_5) fun i_6 => br (i_4 = i_6) (K w (0 : Int32)) (K w (1 : Int32)))
abbrev rm_X4_wasTurned : Room := { frames := 0, cells := 0, slots := 0, locals := 0 }
abbrev ws9_X4_wasTurned : List Cond := ws_ yX4_wasTurned cX4_wasTurned 2 (Option.some Jvm.ClassFile.FieldType.boolean)
abbrev Q9_X4_wasTurned (below : List Frame) (args : Array Value) (s : State) (G : hG) (K : Hp → Int32 → Prop) : State → Prop := MQ below (hx_Qi G K) args s 0 0 (hx_A G)
set_option maxHeartbeats 4000000 in
set_option maxRecDepth 100000 in
theorem wk_X4_wasTurned (l : Launch) {G : hG} {w : Hp} {a0 : Nat} {a1 : Nat} {K : Hp → Int32 → Prop} (h : wp_X4_wasTurned w a0 a1 K) : hx_Mi l yX4_wasTurned (ws9_X4_wasTurned) rm_X4_wasTurned G w [.ref a0, .ref a1] K 0 0 := by
  refine Met.ofW (cc := cX4_wasTurned) (maxL := 2) (ret := (Option.some Jvm.ClassFile.FieldType.boolean)) (by decide +kernel) rfl ?_
  intro p e s m args below meth c s₁ B hml hv
  refine hx_in (own := RX4) (av := [.ref a0, .ref a1]) (vl := [(0, va_rf (some a0)), (1, va_rf (some a1))]) rfl rfl (Nat.le_of_ble_eq_true rfl) rfl B hml hv ?_
  intro C0 hU hH hr hlocks hin ls hl
  have hx := C0.1
  have hb := C0.2.1
  have hts := C0.2.2.2.2
  refine hx_aload_n C0 dX4_wasTurned_0 rfl (lv_at hl 1 rfl) ?_
  refine lv_bipush (v := 15) hx hb dX4_wasTurned_1 (by decide) ?_
  refine hx_aI C0 hU hH h dX4_wasTurned_3 (fun i_1 h => ?_)
  refine lv_iconst (v := -1) hx hb dX4_wasTurned_4 (by decide) ?_
  refine lv_icmp_eq hx hb dX4_wasTurned_5 (tgt := 32) (by decide) (fun c_2 => ?_) (fun c_2 => ?_)
  · have h := h.1 c_2
    refine lv_iconst (v := 0) hx hb dX4_wasTurned_32 (by decide) ?_
    exact hx_retz C0 hH hr hlocks (Or.inl rfl) h (Nat.le_of_ble_eq_true rfl) (Nat.le_of_ble_eq_true rfl) dX4_wasTurned_33
  · have h := h.2 c_2
    refine hx_aload_n C0 dX4_wasTurned_8 rfl (lv_at hl 1 rfl) ?_
    refine lv_iconst (v := 3) hx hb dX4_wasTurned_9 (by decide) ?_
    refine hx_aload_n C0 dX4_wasTurned_10 rfl (lv_at hl 1 rfl) ?_
    refine lv_bipush (v := 15) hx hb dX4_wasTurned_11 (by decide) ?_
    refine hx_aI C0 hU hH h dX4_wasTurned_13 (fun i_3 h => ?_)
    refine lv_iadd hx hb dX4_wasTurned_14 ?_
    refine hx_aI C0 hU hH h dX4_wasTurned_15 (fun i_4 h => ?_)
    refine hx_aload_n C0 dX4_wasTurned_16 rfl (lv_at hl 1 rfl) ?_
    refine lv_bipush (v := 9) hx hb dX4_wasTurned_17 (by decide) ?_
    refine hx_aload_n C0 dX4_wasTurned_19 rfl (lv_at hl 1 rfl) ?_
    refine lv_bipush (v := 15) hx hb dX4_wasTurned_20 (by decide) ?_
    refine hx_aI C0 hU hH h dX4_wasTurned_22 (fun i_5 h => ?_)
    refine lv_iadd hx hb dX4_wasTurned_23 ?_
    refine hx_aI C0 hU hH h dX4_wasTurned_24 (fun i_6 h => ?_)
    refine lv_icmp_eq hx hb dX4_wasTurned_25 (tgt := 32) (by decide) (fun c_7 => ?_) (fun c_7 => ?_)
    · have h := h.1 c_7
      refine lv_iconst (v := 0) hx hb dX4_wasTurned_32 (by decide) ?_
      exact hx_retz C0 hH hr hlocks (Or.inl rfl) h (Nat.le_of_ble_eq_true rfl) (Nat.le_of_ble_eq_true rfl) dX4_wasTurned_33
    · have h := h.2 c_7
      refine lv_iconst (v := 1) hx hb dX4_wasTurned_28 (by decide) ?_
      refine lv_goto hx hb dX4_wasTurned_29 (tgt := 33) (by decide) ?_
      exact hx_retz C0 hH hr hlocks (Or.inr rfl) h (Nat.le_of_ble_eq_true rfl) (Nat.le_of_ble_eq_true rfl) dX4_wasTurned_33
def wp_X4_isTurned_b14 (K : Hp → Int32 → Prop)  (w : Hp) (a0 : Nat) (x1 : Int32) (t0 : Int32) (at1 : Nat) : Prop :=
  isO w at1 3 <| wp_X4_isWrong w at1 t0 fun w i_1 => br (i_1 = 0) (gR w a0 3 23 fun r_3 => dR r_3 fun b_4 => aR w b_4 x1 fun r_5 => dR r_5 fun b_6 => isO w a0 3 <| wp_X4_wasTurned w a0 b_6 fun w i_7 => gd (i_7 = 0 ∨ i_7 = 1) <| K w i_7) (K w (0 : Int32))
def wp_X4_isTurned (w : Hp) (a0 : Nat) (x1 : Int32) (K : Hp → Int32 → Prop) : Prop :=
  isO w a0 3 <| wp_X4_isLetter w a0 x1 fun w i_1 => br (i_1 = 0) (wp_X4_isTurned_b14 K w a0 x1 (1 : Int32) a0) (wp_X4_isTurned_b14 K w a0 x1 (0 : Int32) a0)
abbrev rm_X4_isTurned : Room := { frames := 2, cells := 0, slots := 0, locals := 46 }
abbrev ws9_X4_isTurned : List Cond := ws_ yX4_isTurned cX4_isTurned 2 (Option.some Jvm.ClassFile.FieldType.boolean)
abbrev Q9_X4_isTurned (below : List Frame) (args : Array Value) (s : State) (G : hG) (K : Hp → Int32 → Prop) : State → Prop := MQ below (hx_Qi G K) args s 0 0 (hx_A G)
set_option maxHeartbeats 4000000 in
set_option maxRecDepth 100000 in
theorem wk_X4_isTurned (l : Launch) {G : hG} {w : Hp} {a0 : Nat} {x1 : Int32} {K : Hp → Int32 → Prop} (h : wp_X4_isTurned w a0 x1 K) : hx_Mi l yX4_isTurned (ws9_X4_isTurned) rm_X4_isTurned G w [.ref a0, .int x1] K 0 0 := by
  refine Met.ofW (cc := cX4_isTurned) (maxL := 2) (ret := (Option.some Jvm.ClassFile.FieldType.boolean)) (by decide +kernel) rfl ?_
  intro p e s m args below meth c s₁ B hml hv
  refine hx_in (own := RX4) (av := [.ref a0, .int x1]) (vl := [(0, va_rf (some a0)), (1, .int x1)]) rfl rfl (Nat.le_of_ble_eq_true rfl) rfl B hml hv ?_
  intro C0 hU hH hr hlocks hin ls hl
  have hx := C0.1
  have hb := C0.2.1
  have hts := C0.2.2.2.2
  have b14 : ∀ (w : Hp) (a0 : Nat) (x1 : Int32) (t0 : Int32) (at1 : Nat), wp_X4_isTurned_b14 K  w a0 x1 t0 at1 → ∀ (H : Heap) (locs : List Loc) (ls : Array Slot), hx_H G w s H locs → lv_has ls 2 [(0, va_rf (some a0)), (1, .int x1)] → W p l e (headSpec (ws9_X4_isTurned) rm_X4_isTurned).room s m args below meth c H locs (0) (0) (Q9_X4_isTurned below args s G K) (F0 m 14 ls [.int t0, va_rf (some at1)]) := by
    intro w a0 x1 t0 at1 h H locs ls hH hl
    obtain ⟨ho, h⟩ := h
    refine hx_Vi C0 hU hH (As := [.int t0]) (wk_X4_isWrong l h) (cwV 1 hts (lw_V q1166 q1168 qs34 q71 q1169) rfl rfl rfl (by decide +kernel) ⟨Nat.le_of_ble_eq_true rfl, Nat.le_of_ble_eq_true rfl⟩) (hx_recv hU hH (ci := 3) rfl ho) rfl hl.1 rfl (Nat.le_of_ble_eq_true rfl) dX4_isTurned_14 ⟨Nat.le_of_ble_eq_true rfl, Nat.le_of_ble_eq_true rfl⟩ (fun i_1 w H locs hH h => ?_)
    refine lv_if_eq hx hb dX4_isTurned_17 (tgt := 22) (by decide) (fun c_2 => ?_) (fun c_2 => ?_)
    · have h := h.1 c_2
      refine hx_aload_n C0 dX4_isTurned_22 rfl (lv_at hl 0 rfl) ?_
      refine hx_aload_n C0 dX4_isTurned_23 rfl (lv_at hl 0 rfl) ?_
      refine hx_gR C0 hU hH (ci := 3) rfl in_X4 23 (by decide) q1094 (fun _ h9 => h9) h dX4_isTurned_24 (fun r_3 h => ?_)
      refine lv_iload_n hx hb dX4_isTurned_27 rfl (lv_at hl 1 rfl) ?_
      obtain ⟨b_4, rfl, h9⟩ := h
      have h := h9
      clear h9
      refine hx_aR C0 hU hH h dX4_isTurned_28 (fun r_5 h => ?_)
      obtain ⟨b_6, rfl, h9⟩ := h
      have h := h9
      clear h9
      obtain ⟨ho, h⟩ := h
      refine hx_Vi C0 hU hH (As := [va_rf (some b_6)]) (wk_X4_wasTurned l h) (cwV 1 hts (lw_V q1390 q1392 qs57 q71 q1393) rfl rfl rfl (by decide +kernel) ⟨Nat.le_of_ble_eq_true rfl, Nat.le_of_ble_eq_true rfl⟩) (hx_recv hU hH (ci := 3) rfl ho) rfl hl.1 rfl (Nat.le_of_ble_eq_true rfl) dX4_isTurned_29 ⟨Nat.le_of_ble_eq_true rfl, Nat.le_of_ble_eq_true rfl⟩ (fun i_7 w H locs hH h => ?_)
      obtain ⟨hz, h⟩ := h
      exact hx_retz C0 hH hr hlocks hz h (Nat.le_of_ble_eq_true rfl) (Nat.le_of_ble_eq_true rfl) dX4_isTurned_32
    · have h := h.2 c_2
      refine lv_iconst (v := 0) hx hb dX4_isTurned_20 (by decide) ?_
      exact hx_retz C0 hH hr hlocks (Or.inl rfl) h (Nat.le_of_ble_eq_true rfl) (Nat.le_of_ble_eq_true rfl) dX4_isTurned_21
  refine hx_aload_n C0 dX4_isTurned_0 rfl (lv_at hl 0 rfl) ?_
  refine hx_aload_n C0 dX4_isTurned_1 rfl (lv_at hl 0 rfl) ?_
  refine lv_iload_n hx hb dX4_isTurned_2 rfl (lv_at hl 1 rfl) ?_
  obtain ⟨ho, h⟩ := h
  refine hx_Vi C0 hU hH (As := [.int x1]) (wk_X4_isLetter l h) (cwV 1 hts (lw_V q1294 q1296 qs46 q71 q1297) rfl rfl rfl (by decide +kernel) ⟨Nat.le_of_ble_eq_true rfl, Nat.le_of_ble_eq_true rfl⟩) (hx_recv hU hH (ci := 3) rfl ho) rfl hl.1 rfl (Nat.le_of_ble_eq_true rfl) dX4_isTurned_3 ⟨Nat.le_of_ble_eq_true rfl, Nat.le_of_ble_eq_true rfl⟩ (fun i_1 w H locs hH h => ?_)
  refine lv_if_eq hx hb dX4_isTurned_6 (tgt := 13) (by decide) (fun c_2 => ?_) (fun c_2 => ?_)
  · have h := h.1 c_2
    refine lv_iconst (v := 1) hx hb dX4_isTurned_13 (by decide) ?_
    refine W.widen (k := 0) (n := 0) (Nat.le_of_ble_eq_true rfl) (Nat.le_of_ble_eq_true rfl) ?_
    exact b14 _ _ _ _ _ h _ _ _ hH (lv_sub hl [0, 1] rfl)
  · have h := h.2 c_2
    refine lv_iconst (v := 0) hx hb dX4_isTurned_9 (by decide) ?_
    refine lv_goto hx hb dX4_isTurned_10 (tgt := 14) (by decide) ?_
    refine W.widen (k := 0) (n := 0) (Nat.le_of_ble_eq_true rfl) (Nat.le_of_ble_eq_true rfl) ?_
    exact b14 _ _ _ _ _ h _ _ _ hH (lv_sub hl [0, 1] rfl)
def wp_X4_address_b13 (K : Hp → Int32 → Prop)  (w : Hp) (a0 : Nat) (x1 : Int32) (t0 : Int32) (at1 : Nat) : Prop :=
  isO w at1 3 <| wp_X4_isWrong w at1 t0 fun w i_1 => br (i_1 = 0) (gR w a0 3 4 fun r_3 => dR r_3 fun b_4 => aI w b_4 x1 fun i_5 => K w i_5) (K w (0 : Int32))
def wp_X4_address (w : Hp) (a0 : Nat) (x1 : Int32) (K : Hp → Int32 → Prop) : Prop :=
  wp_X4_isEnd w x1 fun w i_1 => br (i_1 = 0) (wp_X4_address_b13 K w a0 x1 (1 : Int32) a0) (wp_X4_address_b13 K w a0 x1 (0 : Int32) a0)
abbrev rm_X4_address : Room := { frames := 2, cells := 0, slots := 0, locals := 45 }
abbrev ws9_X4_address : List Cond := ws_ yX4_address cX4_address 2 (Option.some Jvm.ClassFile.FieldType.int)
abbrev Q9_X4_address (below : List Frame) (args : Array Value) (s : State) (G : hG) (K : Hp → Int32 → Prop) : State → Prop := MQ below (hx_Qi G K) args s 0 0 (hx_A G)
set_option maxHeartbeats 4000000 in
set_option maxRecDepth 100000 in
theorem wk_X4_address (l : Launch) {G : hG} {w : Hp} {a0 : Nat} {x1 : Int32} {K : Hp → Int32 → Prop} (h : wp_X4_address w a0 x1 K) : hx_Mi l yX4_address (ws9_X4_address) rm_X4_address G w [.ref a0, .int x1] K 0 0 := by
  refine Met.ofW (cc := cX4_address) (maxL := 2) (ret := (Option.some Jvm.ClassFile.FieldType.int)) (by decide +kernel) rfl ?_
  intro p e s m args below meth c s₁ B hml hv
  refine hx_in (own := RX4) (av := [.ref a0, .int x1]) (vl := [(0, va_rf (some a0)), (1, .int x1)]) rfl rfl (Nat.le_of_ble_eq_true rfl) rfl B hml hv ?_
  intro C0 hU hH hr hlocks hin ls hl
  have hx := C0.1
  have hb := C0.2.1
  have hts := C0.2.2.2.2
  have b13 : ∀ (w : Hp) (a0 : Nat) (x1 : Int32) (t0 : Int32) (at1 : Nat), wp_X4_address_b13 K  w a0 x1 t0 at1 → ∀ (H : Heap) (locs : List Loc) (ls : Array Slot), hx_H G w s H locs → lv_has ls 2 [(0, va_rf (some a0)), (1, .int x1)] → W p l e (headSpec (ws9_X4_address) rm_X4_address).room s m args below meth c H locs (0) (0) (Q9_X4_address below args s G K) (F0 m 13 ls [.int t0, va_rf (some at1)]) := by
    intro w a0 x1 t0 at1 h H locs ls hH hl
    obtain ⟨ho, h⟩ := h
    refine hx_Vi C0 hU hH (As := [.int t0]) (wk_X4_isWrong l h) (cwV 1 hts (lw_V q1166 q1168 qs34 q71 q1169) rfl rfl rfl (by decide +kernel) ⟨Nat.le_of_ble_eq_true rfl, Nat.le_of_ble_eq_true rfl⟩) (hx_recv hU hH (ci := 3) rfl ho) rfl hl.1 rfl (Nat.le_of_ble_eq_true rfl) dX4_address_13 ⟨Nat.le_of_ble_eq_true rfl, Nat.le_of_ble_eq_true rfl⟩ (fun i_1 w H locs hH h => ?_)
    refine lv_if_eq hx hb dX4_address_16 (tgt := 21) (by decide) (fun c_2 => ?_) (fun c_2 => ?_)
    · have h := h.1 c_2
      refine hx_aload_n C0 dX4_address_21 rfl (lv_at hl 0 rfl) ?_
      refine hx_gR C0 hU hH (ci := 3) rfl in_X4 4 (by decide) q1075 (fun _ h9 => h9) h dX4_address_22 (fun r_3 h => ?_)
      refine lv_iload_n hx hb dX4_address_25 rfl (lv_at hl 1 rfl) ?_
      obtain ⟨b_4, rfl, h9⟩ := h
      have h := h9
      clear h9
      refine hx_aI C0 hU hH h dX4_address_26 (fun i_5 h => ?_)
      exact hx_reti C0 hH hr hlocks h (Nat.le_of_ble_eq_true rfl) (Nat.le_of_ble_eq_true rfl) dX4_address_27
    · have h := h.2 c_2
      refine lv_iconst (v := 0) hx hb dX4_address_19 (by decide) ?_
      exact hx_reti C0 hH hr hlocks h (Nat.le_of_ble_eq_true rfl) (Nat.le_of_ble_eq_true rfl) dX4_address_20
  refine hx_aload_n C0 dX4_address_0 rfl (lv_at hl 0 rfl) ?_
  refine lv_iload_n hx hb dX4_address_1 rfl (lv_at hl 1 rfl) ?_
  refine hx_Si C0 hU hH (As := [.int x1]) (wk_X4_isEnd l h) (va_cwS 1 hts (lw_S q1175 q1176 q71 q1177) rfl rfl rfl (by decide +kernel) ⟨Nat.le_of_ble_eq_true rfl, Nat.le_of_ble_eq_true rfl⟩) rfl hl.1 rfl (Nat.le_of_ble_eq_true rfl) dX4_address_2 ⟨Nat.le_of_ble_eq_true rfl, Nat.le_of_ble_eq_true rfl⟩ (fun i_1 w H locs hH h => ?_)
  refine lv_if_eq hx hb dX4_address_5 (tgt := 12) (by decide) (fun c_2 => ?_) (fun c_2 => ?_)
  · have h := h.1 c_2
    refine lv_iconst (v := 1) hx hb dX4_address_12 (by decide) ?_
    refine W.widen (k := 0) (n := 0) (Nat.le_of_ble_eq_true rfl) (Nat.le_of_ble_eq_true rfl) ?_
    exact b13 _ _ _ _ _ h _ _ _ hH (lv_sub hl [0, 1] rfl)
  · have h := h.2 c_2
    refine lv_iconst (v := 0) hx hb dX4_address_8 (by decide) ?_
    refine lv_goto hx hb dX4_address_9 (tgt := 13) (by decide) ?_
    refine W.widen (k := 0) (n := 0) (Nat.le_of_ble_eq_true rfl) (Nat.le_of_ble_eq_true rfl) ?_
    exact b13 _ _ _ _ _ h _ _ _ hH (lv_sub hl [0, 1] rfl)
def wp_X4_known (w : Hp) (a0 : Nat) (x1 : Int32) (x2 : Int32) (K : Hp → Int32 → Prop) : Prop :=
  wp_X4_pair w x1 x2 fun w i_1 => isO w a0 3 <| wp_X4_isWrong w a0 i_1 fun w i_2 => br (i_2 = 0) (gR w a0 3 10 fun r_4 => dR r_4 fun b_5 => aR w b_5 x1 fun r_6 => dR r_6 fun b_7 => aI w b_7 x2 fun i_8 => K w i_8) (K w (0 : Int32))
abbrev rm_X4_known : Room := { frames := 3, cells := 0, slots := 0, locals := 66 }
abbrev ws9_X4_known : List Cond := ws_ yX4_known cX4_known 3 (Option.some Jvm.ClassFile.FieldType.int)
abbrev Q9_X4_known (below : List Frame) (args : Array Value) (s : State) (G : hG) (K : Hp → Int32 → Prop) : State → Prop := MQ below (hx_Qi G K) args s 0 0 (hx_A G)
set_option maxHeartbeats 4000000 in
set_option maxRecDepth 100000 in
theorem wk_X4_known (l : Launch) {G : hG} {w : Hp} {a0 : Nat} {x1 : Int32} {x2 : Int32} {K : Hp → Int32 → Prop} (h : wp_X4_known w a0 x1 x2 K) : hx_Mi l yX4_known (ws9_X4_known) rm_X4_known G w [.ref a0, .int x1, .int x2] K 0 0 := by
  refine Met.ofW (cc := cX4_known) (maxL := 3) (ret := (Option.some Jvm.ClassFile.FieldType.int)) (by decide +kernel) rfl ?_
  intro p e s m args below meth c s₁ B hml hv
  refine hx_in (own := RX4) (av := [.ref a0, .int x1, .int x2]) (vl := [(0, va_rf (some a0)), (1, .int x1), (2, .int x2)]) rfl rfl (Nat.le_of_ble_eq_true rfl) rfl B hml hv ?_
  intro C0 hU hH hr hlocks hin ls hl
  have hx := C0.1
  have hb := C0.2.1
  have hts := C0.2.2.2.2
  refine hx_aload_n C0 dX4_known_0 rfl (lv_at hl 0 rfl) ?_
  refine lv_iload_n hx hb dX4_known_1 rfl (lv_at hl 1 rfl) ?_
  refine lv_iload_n hx hb dX4_known_2 rfl (lv_at hl 2 rfl) ?_
  refine hx_Si C0 hU hH (As := [.int x1, .int x2]) (wk_X4_pair l h) (va_cwS 2 hts (lw_S q1189 q1190 q71 q1191) rfl rfl rfl (by decide +kernel) ⟨Nat.le_of_ble_eq_true rfl, Nat.le_of_ble_eq_true rfl⟩) rfl hl.1 rfl (Nat.le_of_ble_eq_true rfl) dX4_known_3 ⟨Nat.le_of_ble_eq_true rfl, Nat.le_of_ble_eq_true rfl⟩ (fun i_1 w H locs hH h => ?_)
  obtain ⟨ho, h⟩ := h
  refine hx_Vi C0 hU hH (As := [.int i_1]) (wk_X4_isWrong l h) (cwV 1 hts (lw_V q1166 q1168 qs34 q71 q1169) rfl rfl rfl (by decide +kernel) ⟨Nat.le_of_ble_eq_true rfl, Nat.le_of_ble_eq_true rfl⟩) (hx_recv hU hH (ci := 3) rfl ho) rfl hl.1 rfl (Nat.le_of_ble_eq_true rfl) dX4_known_6 ⟨Nat.le_of_ble_eq_true rfl, Nat.le_of_ble_eq_true rfl⟩ (fun i_2 w H locs hH h => ?_)
  refine lv_if_eq hx hb dX4_known_9 (tgt := 14) (by decide) (fun c_3 => ?_) (fun c_3 => ?_)
  · have h := h.1 c_3
    refine hx_aload_n C0 dX4_known_14 rfl (lv_at hl 0 rfl) ?_
    refine hx_gR C0 hU hH (ci := 3) rfl in_X4 10 (by decide) q1081 (fun _ h9 => h9) h dX4_known_15 (fun r_4 h => ?_)
    refine lv_iload_n hx hb dX4_known_18 rfl (lv_at hl 1 rfl) ?_
    obtain ⟨b_5, rfl, h9⟩ := h
    have h := h9
    clear h9
    refine hx_aR C0 hU hH h dX4_known_19 (fun r_6 h => ?_)
    refine lv_iload_n hx hb dX4_known_20 rfl (lv_at hl 2 rfl) ?_
    obtain ⟨b_7, rfl, h9⟩ := h
    have h := h9
    clear h9
    refine hx_aI C0 hU hH h dX4_known_21 (fun i_8 h => ?_)
    exact hx_reti C0 hH hr hlocks h (Nat.le_of_ble_eq_true rfl) (Nat.le_of_ble_eq_true rfl) dX4_known_22
  · have h := h.2 c_3
    refine lv_iconst (v := 0) hx hb dX4_known_12 (by decide) ?_
    exact hx_reti C0 hH hr hlocks h (Nat.le_of_ble_eq_true rfl) (Nat.le_of_ble_eq_true rfl) dX4_known_13
def wp_X4_route_b29 (K : Hp → Int32 → Prop)  (w : Hp) (a0 : Nat) (x1 : Int32) (x2 : Int32) (t0 : Int32) (at1 : Nat) : Prop :=
  isO w at1 3 <| wp_X4_isWrong w at1 t0 fun w i_1 => br (i_1 = 0) (isO w a0 3 <| wp_X4_given w a0 x1 x2 fun w i_3 => K w i_3) (K w (0 : Int32))
def wp_X4_route (w : Hp) (a0 : Nat) (x1 : Int32) (x2 : Int32) (K : Hp → Int32 → Prop) : Prop :=
  wp_X4_isEnd w x1 fun w i_1 => br (i_1 = 0) (wp_X4_route_b29 K w a0 x1 x2 (1 : Int32) a0) (wp_X4_isBetween w (x2.toInt64) (0 : Int64) (255 : Int64) fun w i_3 => br (i_3 = 0) (wp_X4_route_b29 K w a0 x1 x2 (2 : Int32) a0) (wp_X4_route_b29 K w a0 x1 x2 (0 : Int32) a0))
abbrev rm_X4_route : Room := { frames := 2, cells := 0, slots := 0, locals := 45 }
abbrev ws9_X4_route : List Cond := ws_ yX4_route cX4_route 3 (Option.some Jvm.ClassFile.FieldType.int)
abbrev Q9_X4_route (below : List Frame) (args : Array Value) (s : State) (G : hG) (K : Hp → Int32 → Prop) : State → Prop := MQ below (hx_Qi G K) args s 0 0 (hx_A G)
set_option maxHeartbeats 4000000 in
set_option maxRecDepth 100000 in
theorem wk_X4_route (l : Launch) {G : hG} {w : Hp} {a0 : Nat} {x1 : Int32} {x2 : Int32} {K : Hp → Int32 → Prop} (h : wp_X4_route w a0 x1 x2 K) : hx_Mi l yX4_route (ws9_X4_route) rm_X4_route G w [.ref a0, .int x1, .int x2] K 0 0 := by
  refine Met.ofW (cc := cX4_route) (maxL := 3) (ret := (Option.some Jvm.ClassFile.FieldType.int)) (by decide +kernel) rfl ?_
  intro p e s m args below meth c s₁ B hml hv
  refine hx_in (own := RX4) (av := [.ref a0, .int x1, .int x2]) (vl := [(0, va_rf (some a0)), (1, .int x1), (2, .int x2)]) rfl rfl (Nat.le_of_ble_eq_true rfl) rfl B hml hv ?_
  intro C0 hU hH hr hlocks hin ls hl
  have hx := C0.1
  have hb := C0.2.1
  have hts := C0.2.2.2.2
  have b29 : ∀ (w : Hp) (a0 : Nat) (x1 : Int32) (x2 : Int32) (t0 : Int32) (at1 : Nat), wp_X4_route_b29 K  w a0 x1 x2 t0 at1 → ∀ (H : Heap) (locs : List Loc) (ls : Array Slot), hx_H G w s H locs → lv_has ls 3 [(0, va_rf (some a0)), (1, .int x1), (2, .int x2)] → W p l e (headSpec (ws9_X4_route) rm_X4_route).room s m args below meth c H locs (0) (0) (Q9_X4_route below args s G K) (F0 m 29 ls [.int t0, va_rf (some at1)]) := by
    intro w a0 x1 x2 t0 at1 h H locs ls hH hl
    obtain ⟨ho, h⟩ := h
    refine hx_Vi C0 hU hH (As := [.int t0]) (wk_X4_isWrong l h) (cwV 1 hts (lw_V q1166 q1168 qs34 q71 q1169) rfl rfl rfl (by decide +kernel) ⟨Nat.le_of_ble_eq_true rfl, Nat.le_of_ble_eq_true rfl⟩) (hx_recv hU hH (ci := 3) rfl ho) rfl hl.1 rfl (Nat.le_of_ble_eq_true rfl) dX4_route_29 ⟨Nat.le_of_ble_eq_true rfl, Nat.le_of_ble_eq_true rfl⟩ (fun i_1 w H locs hH h => ?_)
    refine lv_if_eq hx hb dX4_route_32 (tgt := 37) (by decide) (fun c_2 => ?_) (fun c_2 => ?_)
    · have h := h.1 c_2
      refine hx_aload_n C0 dX4_route_37 rfl (lv_at hl 0 rfl) ?_
      refine lv_iload_n hx hb dX4_route_38 rfl (lv_at hl 1 rfl) ?_
      refine lv_iload_n hx hb dX4_route_39 rfl (lv_at hl 2 rfl) ?_
      obtain ⟨ho, h⟩ := h
      refine hx_Vi C0 hU hH (As := [.int x1, .int x2]) (wk_X4_given l h) (cwV 2 hts (lw_V q1208 q1210 qs36 q71 q1211) rfl rfl rfl (by decide +kernel) ⟨Nat.le_of_ble_eq_true rfl, Nat.le_of_ble_eq_true rfl⟩) (hx_recv hU hH (ci := 3) rfl ho) rfl hl.1 rfl (Nat.le_of_ble_eq_true rfl) dX4_route_40 ⟨Nat.le_of_ble_eq_true rfl, Nat.le_of_ble_eq_true rfl⟩ (fun i_3 w H locs hH h => ?_)
      exact hx_reti C0 hH hr hlocks h (Nat.le_of_ble_eq_true rfl) (Nat.le_of_ble_eq_true rfl) dX4_route_43
    · have h := h.2 c_2
      refine lv_iconst (v := 0) hx hb dX4_route_35 (by decide) ?_
      exact hx_reti C0 hH hr hlocks h (Nat.le_of_ble_eq_true rfl) (Nat.le_of_ble_eq_true rfl) dX4_route_36
  refine hx_aload_n C0 dX4_route_0 rfl (lv_at hl 0 rfl) ?_
  refine lv_iload_n hx hb dX4_route_1 rfl (lv_at hl 1 rfl) ?_
  refine hx_Si C0 hU hH (As := [.int x1]) (wk_X4_isEnd l h) (va_cwS 1 hts (lw_S q1175 q1176 q71 q1177) rfl rfl rfl (by decide +kernel) ⟨Nat.le_of_ble_eq_true rfl, Nat.le_of_ble_eq_true rfl⟩) rfl hl.1 rfl (Nat.le_of_ble_eq_true rfl) dX4_route_2 ⟨Nat.le_of_ble_eq_true rfl, Nat.le_of_ble_eq_true rfl⟩ (fun i_1 w H locs hH h => ?_)
  refine lv_if_ne hx hb dX4_route_5 (tgt := 12) (by decide) (fun c_2 => ?_) (fun c_2 => ?_)
  · have h := h.2 c_2
    refine lv_iload_n hx hb dX4_route_12 rfl (lv_at hl 2 rfl) ?_
    refine lv_i2l hx hb dX4_route_13 rfl ?_
    refine lv_lconst (v := 0) hx hb dX4_route_14 (by decide) ?_
    refine lv_ldc2 (v := 255) hx hb C0.2.2.2.1 (hts _ q1187) dX4_route_15 ?_
    refine hx_Si C0 hU hH (As := [.long (x2.toInt64), .long (0 : Int64), .long (255 : Int64)]) (wk_X4_isBetween l h) (va_cwS 3 hts (lw_S q1162 q1163 q71 q1164) rfl rfl rfl (by decide +kernel) ⟨Nat.le_of_ble_eq_true rfl, Nat.le_of_ble_eq_true rfl⟩) rfl hl.1 rfl (Nat.le_of_ble_eq_true rfl) dX4_route_18 ⟨Nat.le_of_ble_eq_true rfl, Nat.le_of_ble_eq_true rfl⟩ (fun i_3 w H locs hH h => ?_)
    refine lv_if_ne hx hb dX4_route_21 (tgt := 28) (by decide) (fun c_4 => ?_) (fun c_4 => ?_)
    · have h := h.2 c_4
      refine lv_iconst (v := 0) hx hb dX4_route_28 (by decide) ?_
      refine W.widen (k := 0) (n := 0) (Nat.le_of_ble_eq_true rfl) (Nat.le_of_ble_eq_true rfl) ?_
      exact b29 _ _ _ _ _ _ h _ _ _ hH (lv_sub hl [0, 1, 2] rfl)
    · have h := h.1 c_4
      refine lv_iconst (v := 2) hx hb dX4_route_24 (by decide) ?_
      refine lv_goto hx hb dX4_route_25 (tgt := 29) (by decide) ?_
      refine W.widen (k := 0) (n := 0) (Nat.le_of_ble_eq_true rfl) (Nat.le_of_ble_eq_true rfl) ?_
      exact b29 _ _ _ _ _ _ h _ _ _ hH (lv_sub hl [0, 1, 2] rfl)
  · have h := h.1 c_2
    refine lv_iconst (v := 1) hx hb dX4_route_8 (by decide) ?_
    refine lv_goto hx hb dX4_route_9 (tgt := 29) (by decide) ?_
    refine W.widen (k := 0) (n := 0) (Nat.le_of_ble_eq_true rfl) (Nat.le_of_ble_eq_true rfl) ?_
    exact b29 _ _ _ _ _ _ h _ _ _ hH (lv_sub hl [0, 1, 2] rfl)
def wp_X4_session_b58 (K : Hp → Int32 → Prop)  (w : Hp) (a0 : Nat) (x1 : Int32) (x2 : Int32) (x3 : Int32) (x4 : Int32) (x5 : Int32) : Prop :=
  isO w a0 3 <| wp_X4_isWrong w a0 x5 fun w i_1 => br (i_1 = 0) (gR w a0 3 21 fun r_3 => dR r_3 fun b_4 => aR w b_4 x1 fun r_5 => dR r_5 fun b_6 => aR w b_6 x2 fun r_7 => dR r_7 fun b_8 => aR w b_8 x3 fun r_9 => br (x4 = 0) (dR r_9 fun b_10 => aI w b_10 (0 : Int32) fun i_11 => K w i_11) (br (x4 = 1) (dR r_9 fun b_13 => aI w b_13 (1 : Int32) fun i_14 => K w i_14) (br (x4 = 2) (gI w a0 3 0 fun i_16 => dR r_9 fun b_17 => aI w b_17 (2 : Int32) fun i_18 => K w (i_16 - i_18)) (br (x4 = 3) (dR r_9 fun b_20 => aI w b_20 (5 : Int32) fun i_21 => K w i_21) (br (x4 = 4) (dR r_9 fun b_23 => aI w b_23 (7 : Int32) fun i_24 => K w i_24) (br (x4 = 5) (dR r_9 fun b_26 => aI w b_26 (8 : Int32) fun i_27 => K w i_27) (br (x4 = 6) (dR r_9 fun b_29 => aI w b_29 (3 : Int32) fun i_30 => K w i_30) (br (x4 = 7) (dR r_9 fun b_32 => aI w b_32 (4 : Int32) fun i_33 => K w i_33) (dR r_9 fun b_35 => aI w b_35 (6 : Int32) fun i_36 => K w i_36))))))))) (K w (0 : Int32))
def wp_X4_session_b40 (K : Hp → Int32 → Prop)  (w : Hp) (a0 : Nat) (x1 : Int32) (x2 : Int32) (x3 : Int32) (x4 : Int32) (x5 : Int32) : Prop :=
  br (x5 = 0) (isO w a0 3 <| wp_X4_isThere w a0 x1 x2 x3 fun w i_2 => br (i_2 = 0) (wp_X4_session_b58 K w a0 x1 x2 x3 x4 (3 : Int32)) (wp_X4_session_b58 K w a0 x1 x2 x3 x4 x5)) (wp_X4_session_b58 K w a0 x1 x2 x3 x4 x5)
def wp_X4_session_b37 (K : Hp → Int32 → Prop)  (w : Hp) (a0 : Nat) (x1 : Int32) (x2 : Int32) (x3 : Int32) (x4 : Int32) : Prop :=
  wp_X4_session_b40 K w a0 x1 x2 x3 x4 (2 : Int32)
def wp_X4_session (w : Hp) (a0 : Nat) (x1 : Int32) (x2 : Int32) (x3 : Int32) (x4 : Int32) (K : Hp → Int32 → Prop) : Prop :=
  wp_X4_pair w x1 x2 fun w i_1 => br (i_1 = 0) (wp_X4_isBetween w (x3.toInt64) (0 : Int64) (2 : Int64) fun w i_3 => br (i_3 = 0) (wp_X4_session_b37 K w a0 x1 x2 x3 x4) (wp_X4_isBetween w (x4.toInt64) (0 : Int64) (8 : Int64) fun w i_5 => br (i_5 = 0) (wp_X4_session_b37 K w a0 x1 x2 x3 x4) (wp_X4_session_b40 K w a0 x1 x2 x3 x4 i_1))) (wp_X4_session_b40 K w a0 x1 x2 x3 x4 i_1)
abbrev rm_X4_session : Room := { frames := 3, cells := 0, slots := 0, locals := 66 }
abbrev ws9_X4_session : List Cond := ws_ yX4_session cX4_session 7 (Option.some Jvm.ClassFile.FieldType.int)
abbrev Q9_X4_session (below : List Frame) (args : Array Value) (s : State) (G : hG) (K : Hp → Int32 → Prop) : State → Prop := MQ below (hx_Qi G K) args s 0 0 (hx_A G)
set_option maxHeartbeats 4000000 in
set_option maxRecDepth 100000 in
theorem wk_X4_session (l : Launch) {G : hG} {w : Hp} {a0 : Nat} {x1 : Int32} {x2 : Int32} {x3 : Int32} {x4 : Int32} {K : Hp → Int32 → Prop} (h : wp_X4_session w a0 x1 x2 x3 x4 K) : hx_Mi l yX4_session (ws9_X4_session) rm_X4_session G w [.ref a0, .int x1, .int x2, .int x3, .int x4] K 0 0 := by
  refine Met.ofW (cc := cX4_session) (maxL := 7) (ret := (Option.some Jvm.ClassFile.FieldType.int)) (by decide +kernel) rfl ?_
  intro p e s m args below meth c s₁ B hml hv
  refine hx_in (own := RX4) (av := [.ref a0, .int x1, .int x2, .int x3, .int x4]) (vl := [(0, va_rf (some a0)), (1, .int x1), (2, .int x2), (3, .int x3), (4, .int x4)]) rfl rfl (Nat.le_of_ble_eq_true rfl) rfl B hml hv ?_
  intro C0 hU hH hr hlocks hin ls hl
  have hx := C0.1
  have hb := C0.2.1
  have hts := C0.2.2.2.2
  have b58 : ∀ (w : Hp) (a0 : Nat) (x1 : Int32) (x2 : Int32) (x3 : Int32) (x4 : Int32) (x5 : Int32), wp_X4_session_b58 K  w a0 x1 x2 x3 x4 x5 → ∀ (H : Heap) (locs : List Loc) (ls : Array Slot), hx_H G w s H locs → lv_has ls 7 [(0, va_rf (some a0)), (1, .int x1), (2, .int x2), (3, .int x3), (4, .int x4), (5, .int x5)] → W p l e (headSpec (ws9_X4_session) rm_X4_session).room s m args below meth c H locs (0) (0) (Q9_X4_session below args s G K) (F0 m 58 ls []) := by
    intro w a0 x1 x2 x3 x4 x5 h H locs ls hH hl
    refine hx_aload_n C0 dX4_session_58 rfl (lv_at hl 0 rfl) ?_
    refine lv_iload hx hb dX4_session_59 (lv_at hl 5 rfl) ?_
    obtain ⟨ho, h⟩ := h
    refine hx_Vi C0 hU hH (As := [.int x5]) (wk_X4_isWrong l h) (cwV 1 hts (lw_V q1166 q1168 qs34 q71 q1169) rfl rfl rfl (by decide +kernel) ⟨Nat.le_of_ble_eq_true rfl, Nat.le_of_ble_eq_true rfl⟩) (hx_recv hU hH (ci := 3) rfl ho) rfl hl.1 rfl (Nat.le_of_ble_eq_true rfl) dX4_session_61 ⟨Nat.le_of_ble_eq_true rfl, Nat.le_of_ble_eq_true rfl⟩ (fun i_1 w H locs hH h => ?_)
    refine lv_if_eq hx hb dX4_session_64 (tgt := 69) (by decide) (fun c_2 => ?_) (fun c_2 => ?_)
    · have h := h.1 c_2
      refine hx_aload_n C0 dX4_session_69 rfl (lv_at hl 0 rfl) ?_
      refine hx_gR C0 hU hH (ci := 3) rfl in_X4 21 (by decide) q1092 (fun _ h9 => h9) h dX4_session_70 (fun r_3 h => ?_)
      refine lv_iload_n hx hb dX4_session_73 rfl (lv_at hl 1 rfl) ?_
      obtain ⟨b_4, rfl, h9⟩ := h
      have h := h9
      clear h9
      refine hx_aR C0 hU hH h dX4_session_74 (fun r_5 h => ?_)
      refine lv_iload_n hx hb dX4_session_75 rfl (lv_at hl 2 rfl) ?_
      obtain ⟨b_6, rfl, h9⟩ := h
      have h := h9
      clear h9
      refine hx_aR C0 hU hH h dX4_session_76 (fun r_7 h => ?_)
      refine lv_iload_n hx hb dX4_session_77 rfl (lv_at hl 3 rfl) ?_
      obtain ⟨b_8, rfl, h9⟩ := h
      have h := h9
      clear h9
      refine hx_aR C0 hU hH h dX4_session_78 (fun r_9 h => ?_)
      refine hx_astore C0 dX4_session_79 hl (by decide) (lv' := [(6, va_rf r_9), (0, va_rf (some a0)), (1, .int x1), (2, .int x2), (3, .int x3), (4, .int x4), (5, .int x5)]) rfl (fun ls hl => ?_)
      refine lv_iload hx hb dX4_session_81 (lv_at hl 5 rfl) ?_
      by_cases c_12 : x4 = 0
      · have h := h.1 c_12
        have zc_12 : (x4).toInt = 0 := by rw [c_12]; rfl
        refine lv_tableIn hx hb dX4_session_83 (by rw [zc_12]; decide) (by rw [zc_12]; decide) (by rw [zc_12]; rfl) (tgt := 128) (by decide) ?_
        refine hx_aload C0 dX4_session_128 (lv_at hl 0 rfl) ?_
        refine lv_iconst (v := 0) hx hb dX4_session_130 (by decide) ?_
        obtain ⟨b_10, rfl, h9⟩ := h
        have h := h9
        clear h9
        refine hx_aI C0 hU hH h dX4_session_131 (fun i_11 h => ?_)
        exact hx_reti C0 hH hr hlocks h (Nat.le_of_ble_eq_true rfl) (Nat.le_of_ble_eq_true rfl) dX4_session_132
      have h := h.2 c_12
      have nc_12 : ¬ (x4).toInt = 0 := hx_ni c_12 rfl
      by_cases c_15 : x4 = 1
      · have h := h.1 c_15
        have zc_15 : (x4).toInt = 1 := by rw [c_15]; rfl
        refine lv_tableIn hx hb dX4_session_83 (by rw [zc_15]; decide) (by rw [zc_15]; decide) (by rw [zc_15]; rfl) (tgt := 133) (by decide) ?_
        refine hx_aload C0 dX4_session_133 (lv_at hl 0 rfl) ?_
        refine lv_iconst (v := 1) hx hb dX4_session_135 (by decide) ?_
        obtain ⟨b_13, rfl, h9⟩ := h
        have h := h9
        clear h9
        refine hx_aI C0 hU hH h dX4_session_136 (fun i_14 h => ?_)
        exact hx_reti C0 hH hr hlocks h (Nat.le_of_ble_eq_true rfl) (Nat.le_of_ble_eq_true rfl) dX4_session_137
      have h := h.2 c_15
      have nc_15 : ¬ (x4).toInt = 1 := hx_ni c_15 rfl
      by_cases c_19 : x4 = 2
      · have h := h.1 c_19
        have zc_19 : (x4).toInt = 2 := by rw [c_19]; rfl
        refine lv_tableIn hx hb dX4_session_83 (by rw [zc_19]; decide) (by rw [zc_19]; decide) (by rw [zc_19]; rfl) (tgt := 138) (by decide) ?_
        refine hx_aload_n C0 dX4_session_138 rfl (lv_at hl 1 rfl) ?_
        refine hx_gI C0 hU hH (ci := 3) rfl in_X4 0 (by decide) q1071 (fun _ h9 => h9) h dX4_session_139 (fun i_16 h => ?_)
        refine hx_aload C0 dX4_session_142 (lv_at hl 0 rfl) ?_
        refine lv_iconst (v := 2) hx hb dX4_session_144 (by decide) ?_
        obtain ⟨b_17, rfl, h9⟩ := h
        have h := h9
        clear h9
        refine hx_aI C0 hU hH h dX4_session_145 (fun i_18 h => ?_)
        refine lv_isub hx hb dX4_session_146 ?_
        exact hx_reti C0 hH hr hlocks h (Nat.le_of_ble_eq_true rfl) (Nat.le_of_ble_eq_true rfl) dX4_session_147
      have h := h.2 c_19
      have nc_19 : ¬ (x4).toInt = 2 := hx_ni c_19 rfl
      by_cases c_22 : x4 = 3
      · have h := h.1 c_22
        have zc_22 : (x4).toInt = 3 := by rw [c_22]; rfl
        refine lv_tableIn hx hb dX4_session_83 (by rw [zc_22]; decide) (by rw [zc_22]; decide) (by rw [zc_22]; rfl) (tgt := 148) (by decide) ?_
        refine hx_aload C0 dX4_session_148 (lv_at hl 0 rfl) ?_
        refine lv_iconst (v := 5) hx hb dX4_session_150 (by decide) ?_
        obtain ⟨b_20, rfl, h9⟩ := h
        have h := h9
        clear h9
        refine hx_aI C0 hU hH h dX4_session_151 (fun i_21 h => ?_)
        exact hx_reti C0 hH hr hlocks h (Nat.le_of_ble_eq_true rfl) (Nat.le_of_ble_eq_true rfl) dX4_session_152
      have h := h.2 c_22
      have nc_22 : ¬ (x4).toInt = 3 := hx_ni c_22 rfl
      by_cases c_25 : x4 = 4
      · have h := h.1 c_25
        have zc_25 : (x4).toInt = 4 := by rw [c_25]; rfl
        refine lv_tableIn hx hb dX4_session_83 (by rw [zc_25]; decide) (by rw [zc_25]; decide) (by rw [zc_25]; rfl) (tgt := 153) (by decide) ?_
        refine hx_aload C0 dX4_session_153 (lv_at hl 0 rfl) ?_
        refine lv_bipush (v := 7) hx hb dX4_session_155 (by decide) ?_
        obtain ⟨b_23, rfl, h9⟩ := h
        have h := h9
        clear h9
        refine hx_aI C0 hU hH h dX4_session_157 (fun i_24 h => ?_)
        exact hx_reti C0 hH hr hlocks h (Nat.le_of_ble_eq_true rfl) (Nat.le_of_ble_eq_true rfl) dX4_session_158
      have h := h.2 c_25
      have nc_25 : ¬ (x4).toInt = 4 := hx_ni c_25 rfl
      by_cases c_28 : x4 = 5
      · have h := h.1 c_28
        have zc_28 : (x4).toInt = 5 := by rw [c_28]; rfl
        refine lv_tableIn hx hb dX4_session_83 (by rw [zc_28]; decide) (by rw [zc_28]; decide) (by rw [zc_28]; rfl) (tgt := 159) (by decide) ?_
        refine hx_aload C0 dX4_session_159 (lv_at hl 0 rfl) ?_
        refine lv_bipush (v := 8) hx hb dX4_session_161 (by decide) ?_
        obtain ⟨b_26, rfl, h9⟩ := h
        have h := h9
        clear h9
        refine hx_aI C0 hU hH h dX4_session_163 (fun i_27 h => ?_)
        exact hx_reti C0 hH hr hlocks h (Nat.le_of_ble_eq_true rfl) (Nat.le_of_ble_eq_true rfl) dX4_session_164
      have h := h.2 c_28
      have nc_28 : ¬ (x4).toInt = 5 := hx_ni c_28 rfl
      by_cases c_31 : x4 = 6
      · have h := h.1 c_31
        have zc_31 : (x4).toInt = 6 := by rw [c_31]; rfl
        refine lv_tableIn hx hb dX4_session_83 (by rw [zc_31]; decide) (by rw [zc_31]; decide) (by rw [zc_31]; rfl) (tgt := 165) (by decide) ?_
        refine hx_aload C0 dX4_session_165 (lv_at hl 0 rfl) ?_
        refine lv_iconst (v := 3) hx hb dX4_session_167 (by decide) ?_
        obtain ⟨b_29, rfl, h9⟩ := h
        have h := h9
        clear h9
        refine hx_aI C0 hU hH h dX4_session_168 (fun i_30 h => ?_)
        exact hx_reti C0 hH hr hlocks h (Nat.le_of_ble_eq_true rfl) (Nat.le_of_ble_eq_true rfl) dX4_session_169
      have h := h.2 c_31
      have nc_31 : ¬ (x4).toInt = 6 := hx_ni c_31 rfl
      by_cases c_34 : x4 = 7
      · have h := h.1 c_34
        have zc_34 : (x4).toInt = 7 := by rw [c_34]; rfl
        refine lv_tableIn hx hb dX4_session_83 (by rw [zc_34]; decide) (by rw [zc_34]; decide) (by rw [zc_34]; rfl) (tgt := 170) (by decide) ?_
        refine hx_aload C0 dX4_session_170 (lv_at hl 0 rfl) ?_
        refine lv_iconst (v := 4) hx hb dX4_session_172 (by decide) ?_
        obtain ⟨b_32, rfl, h9⟩ := h
        have h := h9
        clear h9
        refine hx_aI C0 hU hH h dX4_session_173 (fun i_33 h => ?_)
        exact hx_reti C0 hH hr hlocks h (Nat.le_of_ble_eq_true rfl) (Nat.le_of_ble_eq_true rfl) dX4_session_174
      have h := h.2 c_34
      have nc_34 : ¬ (x4).toInt = 7 := hx_ni c_34 rfl
      refine lv_tableOut hx hb dX4_session_83 (by omega) (tgt := 175) (by decide) ?_
      refine hx_aload C0 dX4_session_175 (lv_at hl 0 rfl) ?_
      refine lv_bipush (v := 6) hx hb dX4_session_177 (by decide) ?_
      obtain ⟨b_35, rfl, h9⟩ := h
      have h := h9
      clear h9
      refine hx_aI C0 hU hH h dX4_session_179 (fun i_36 h => ?_)
      exact hx_reti C0 hH hr hlocks h (Nat.le_of_ble_eq_true rfl) (Nat.le_of_ble_eq_true rfl) dX4_session_180
    · have h := h.2 c_2
      refine lv_iconst (v := 0) hx hb dX4_session_67 (by decide) ?_
      exact hx_reti C0 hH hr hlocks h (Nat.le_of_ble_eq_true rfl) (Nat.le_of_ble_eq_true rfl) dX4_session_68
  have b40 : ∀ (w : Hp) (a0 : Nat) (x1 : Int32) (x2 : Int32) (x3 : Int32) (x4 : Int32) (x5 : Int32), wp_X4_session_b40 K  w a0 x1 x2 x3 x4 x5 → ∀ (H : Heap) (locs : List Loc) (ls : Array Slot), hx_H G w s H locs → lv_has ls 7 [(0, va_rf (some a0)), (1, .int x1), (2, .int x2), (3, .int x3), (4, .int x4), (5, .int x5)] → W p l e (headSpec (ws9_X4_session) rm_X4_session).room s m args below meth c H locs (0) (0) (Q9_X4_session below args s G K) (F0 m 40 ls []) := by
    intro w a0 x1 x2 x3 x4 x5 h H locs ls hH hl
    refine lv_iload hx hb dX4_session_40 (lv_at hl 5 rfl) ?_
    refine lv_if_ne hx hb dX4_session_42 (tgt := 58) (by decide) (fun c_1 => ?_) (fun c_1 => ?_)
    · have h := h.2 c_1
      refine W.widen (k := 0) (n := 0) (Nat.le_of_ble_eq_true rfl) (Nat.le_of_ble_eq_true rfl) ?_
      exact b58 _ _ _ _ _ _ _ h _ _ _ hH (lv_sub hl [0, 1, 2, 3, 4, 5] rfl)
    · have h := h.1 c_1
      refine hx_aload_n C0 dX4_session_45 rfl (lv_at hl 0 rfl) ?_
      refine lv_iload_n hx hb dX4_session_46 rfl (lv_at hl 1 rfl) ?_
      refine lv_iload_n hx hb dX4_session_47 rfl (lv_at hl 2 rfl) ?_
      refine lv_iload_n hx hb dX4_session_48 rfl (lv_at hl 3 rfl) ?_
      obtain ⟨ho, h⟩ := h
      refine hx_Vi C0 hU hH (As := [.int x1, .int x2, .int x3]) (wk_X4_isThere l h) (cwV 3 hts (lw_V q1216 q1218 qs38 q71 q1219) rfl rfl rfl (by decide +kernel) ⟨Nat.le_of_ble_eq_true rfl, Nat.le_of_ble_eq_true rfl⟩) (hx_recv hU hH (ci := 3) rfl ho) rfl hl.1 rfl (Nat.le_of_ble_eq_true rfl) dX4_session_49 ⟨Nat.le_of_ble_eq_true rfl, Nat.le_of_ble_eq_true rfl⟩ (fun i_2 w H locs hH h => ?_)
      refine lv_if_ne hx hb dX4_session_52 (tgt := 58) (by decide) (fun c_3 => ?_) (fun c_3 => ?_)
      · have h := h.2 c_3
        refine W.widen (k := 0) (n := 0) (Nat.le_of_ble_eq_true rfl) (Nat.le_of_ble_eq_true rfl) ?_
        exact b58 _ _ _ _ _ _ _ h _ _ _ hH (lv_sub hl [0, 1, 2, 3, 4, 5] rfl)
      · have h := h.1 c_3
        refine lv_iconst (v := 3) hx hb dX4_session_55 (by decide) ?_
        refine lv_istore hx hb dX4_session_56 hl (by decide) (lv' := [(5, .int (3 : Int32)), (0, va_rf (some a0)), (1, .int x1), (2, .int x2), (3, .int x3), (4, .int x4)]) rfl (fun ls hl => ?_)
        refine W.widen (k := 0) (n := 0) (Nat.le_of_ble_eq_true rfl) (Nat.le_of_ble_eq_true rfl) ?_
        exact b58 _ _ _ _ _ _ _ h _ _ _ hH (lv_sub hl [1, 2, 3, 4, 5, 0] rfl)
  have b37 : ∀ (w : Hp) (a0 : Nat) (x1 : Int32) (x2 : Int32) (x3 : Int32) (x4 : Int32), wp_X4_session_b37 K  w a0 x1 x2 x3 x4 → ∀ (H : Heap) (locs : List Loc) (ls : Array Slot), hx_H G w s H locs → lv_has ls 7 [(0, va_rf (some a0)), (1, .int x1), (2, .int x2), (3, .int x3), (4, .int x4)] → W p l e (headSpec (ws9_X4_session) rm_X4_session).room s m args below meth c H locs (0) (0) (Q9_X4_session below args s G K) (F0 m 37 ls []) := by
    intro w a0 x1 x2 x3 x4 h H locs ls hH hl
    refine lv_iconst (v := 2) hx hb dX4_session_37 (by decide) ?_
    refine lv_istore hx hb dX4_session_38 hl (by decide) (lv' := [(5, .int (2 : Int32)), (0, va_rf (some a0)), (1, .int x1), (2, .int x2), (3, .int x3), (4, .int x4)]) rfl (fun ls hl => ?_)
    refine W.widen (k := 0) (n := 0) (Nat.le_of_ble_eq_true rfl) (Nat.le_of_ble_eq_true rfl) ?_
    exact b40 _ _ _ _ _ _ _ h _ _ _ hH (lv_sub hl [1, 2, 3, 4, 5, 0] rfl)
  refine lv_iload_n hx hb dX4_session_0 rfl (lv_at hl 1 rfl) ?_
  refine lv_iload_n hx hb dX4_session_1 rfl (lv_at hl 2 rfl) ?_
  refine hx_Si C0 hU hH (As := [.int x1, .int x2]) (wk_X4_pair l h) (va_cwS 2 hts (lw_S q1189 q1190 q71 q1191) rfl rfl rfl (by decide +kernel) ⟨Nat.le_of_ble_eq_true rfl, Nat.le_of_ble_eq_true rfl⟩) rfl hl.1 rfl (Nat.le_of_ble_eq_true rfl) dX4_session_2 ⟨Nat.le_of_ble_eq_true rfl, Nat.le_of_ble_eq_true rfl⟩ (fun i_1 w H locs hH h => ?_)
  refine lv_istore hx hb dX4_session_5 hl (by decide) (lv' := [(5, .int i_1), (0, va_rf (some a0)), (1, .int x1), (2, .int x2), (3, .int x3), (4, .int x4)]) rfl (fun ls hl => ?_)
  refine lv_iload hx hb dX4_session_7 (lv_at hl 0 rfl) ?_
  refine lv_if_ne hx hb dX4_session_9 (tgt := 40) (by decide) (fun c_2 => ?_) (fun c_2 => ?_)
  · have h := h.2 c_2
    refine W.widen (k := 0) (n := 0) (Nat.le_of_ble_eq_true rfl) (Nat.le_of_ble_eq_true rfl) ?_
    exact b40 _ _ _ _ _ _ _ h _ _ _ hH (lv_sub hl [1, 2, 3, 4, 5, 0] rfl)
  · have h := h.1 c_2
    refine lv_iload_n hx hb dX4_session_12 rfl (lv_at hl 4 rfl) ?_
    refine lv_i2l hx hb dX4_session_13 rfl ?_
    refine lv_lconst (v := 0) hx hb dX4_session_14 (by decide) ?_
    refine lv_ldc2 (v := 2) hx hb C0.2.2.2.1 (hts _ q1178) dX4_session_15 ?_
    refine hx_Si C0 hU hH (As := [.long (x3.toInt64), .long (0 : Int64), .long (2 : Int64)]) (wk_X4_isBetween l h) (va_cwS 3 hts (lw_S q1162 q1163 q71 q1164) rfl rfl rfl (by decide +kernel) ⟨Nat.le_of_ble_eq_true rfl, Nat.le_of_ble_eq_true rfl⟩) rfl hl.1 rfl (Nat.le_of_ble_eq_true rfl) dX4_session_18 ⟨Nat.le_of_ble_eq_true rfl, Nat.le_of_ble_eq_true rfl⟩ (fun i_3 w H locs hH h => ?_)
    refine lv_if_eq hx hb dX4_session_21 (tgt := 37) (by decide) (fun c_4 => ?_) (fun c_4 => ?_)
    · have h := h.1 c_4
      refine W.widen (k := 0) (n := 0) (Nat.le_of_ble_eq_true rfl) (Nat.le_of_ble_eq_true rfl) ?_
      exact b37 _ _ _ _ _ _ h _ _ _ hH (lv_sub hl [1, 2, 3, 4, 5] rfl)
    · have h := h.2 c_4
      refine lv_iload hx hb dX4_session_24 (lv_at hl 5 rfl) ?_
      refine lv_i2l hx hb dX4_session_26 rfl ?_
      refine lv_lconst (v := 0) hx hb dX4_session_27 (by decide) ?_
      refine lv_ldc2 (v := 8) hx hb C0.2.2.2.1 (hts _ q1188) dX4_session_28 ?_
      refine hx_Si C0 hU hH (As := [.long (x4.toInt64), .long (0 : Int64), .long (8 : Int64)]) (wk_X4_isBetween l h) (va_cwS 3 hts (lw_S q1162 q1163 q71 q1164) rfl rfl rfl (by decide +kernel) ⟨Nat.le_of_ble_eq_true rfl, Nat.le_of_ble_eq_true rfl⟩) rfl hl.1 rfl (Nat.le_of_ble_eq_true rfl) dX4_session_31 ⟨Nat.le_of_ble_eq_true rfl, Nat.le_of_ble_eq_true rfl⟩ (fun i_5 w H locs hH h => ?_)
      refine lv_if_ne hx hb dX4_session_34 (tgt := 40) (by decide) (fun c_6 => ?_) (fun c_6 => ?_)
      · have h := h.2 c_6
        refine W.widen (k := 0) (n := 0) (Nat.le_of_ble_eq_true rfl) (Nat.le_of_ble_eq_true rfl) ?_
        exact b40 _ _ _ _ _ _ _ h _ _ _ hH (lv_sub hl [1, 2, 3, 4, 5, 0] rfl)
      · have h := h.1 c_6
        refine W.widen (k := 0) (n := 0) (Nat.le_of_ble_eq_true rfl) (Nat.le_of_ble_eq_true rfl) ?_
        exact b37 _ _ _ _ _ _ h _ _ _ hH (lv_sub hl [1, 2, 3, 4, 5] rfl)
def wp_X4_isUsable (w : Hp) (a0 : Nat) (x1 : Int32) (x2 : Int32) (K : Hp → Int32 → Prop) : Prop :=
  wp_X4_pair w x1 x2 fun w i_1 => isO w a0 3 <| wp_X4_isWrong w a0 i_1 fun w i_2 => br (i_2 = 0) (isO w a0 3 <| wp_X4_usable w a0 x1 x2 fun w i_4 => gd (i_4 = 0 ∨ i_4 = 1) <| K w i_4) (K w (0 : Int32))
abbrev rm_X4_isUsable : Room := { frames := 3, cells := 0, slots := 0, locals := 66 }
abbrev ws9_X4_isUsable : List Cond := ws_ yX4_isUsable cX4_isUsable 3 (Option.some Jvm.ClassFile.FieldType.boolean)
abbrev Q9_X4_isUsable (below : List Frame) (args : Array Value) (s : State) (G : hG) (K : Hp → Int32 → Prop) : State → Prop := MQ below (hx_Qi G K) args s 0 0 (hx_A G)
set_option maxHeartbeats 4000000 in
set_option maxRecDepth 100000 in
theorem wk_X4_isUsable (l : Launch) {G : hG} {w : Hp} {a0 : Nat} {x1 : Int32} {x2 : Int32} {K : Hp → Int32 → Prop} (h : wp_X4_isUsable w a0 x1 x2 K) : hx_Mi l yX4_isUsable (ws9_X4_isUsable) rm_X4_isUsable G w [.ref a0, .int x1, .int x2] K 0 0 := by
  refine Met.ofW (cc := cX4_isUsable) (maxL := 3) (ret := (Option.some Jvm.ClassFile.FieldType.boolean)) (by decide +kernel) rfl ?_
  intro p e s m args below meth c s₁ B hml hv
  refine hx_in (own := RX4) (av := [.ref a0, .int x1, .int x2]) (vl := [(0, va_rf (some a0)), (1, .int x1), (2, .int x2)]) rfl rfl (Nat.le_of_ble_eq_true rfl) rfl B hml hv ?_
  intro C0 hU hH hr hlocks hin ls hl
  have hx := C0.1
  have hb := C0.2.1
  have hts := C0.2.2.2.2
  refine hx_aload_n C0 dX4_isUsable_0 rfl (lv_at hl 0 rfl) ?_
  refine lv_iload_n hx hb dX4_isUsable_1 rfl (lv_at hl 1 rfl) ?_
  refine lv_iload_n hx hb dX4_isUsable_2 rfl (lv_at hl 2 rfl) ?_
  refine hx_Si C0 hU hH (As := [.int x1, .int x2]) (wk_X4_pair l h) (va_cwS 2 hts (lw_S q1189 q1190 q71 q1191) rfl rfl rfl (by decide +kernel) ⟨Nat.le_of_ble_eq_true rfl, Nat.le_of_ble_eq_true rfl⟩) rfl hl.1 rfl (Nat.le_of_ble_eq_true rfl) dX4_isUsable_3 ⟨Nat.le_of_ble_eq_true rfl, Nat.le_of_ble_eq_true rfl⟩ (fun i_1 w H locs hH h => ?_)
  obtain ⟨ho, h⟩ := h
  refine hx_Vi C0 hU hH (As := [.int i_1]) (wk_X4_isWrong l h) (cwV 1 hts (lw_V q1166 q1168 qs34 q71 q1169) rfl rfl rfl (by decide +kernel) ⟨Nat.le_of_ble_eq_true rfl, Nat.le_of_ble_eq_true rfl⟩) (hx_recv hU hH (ci := 3) rfl ho) rfl hl.1 rfl (Nat.le_of_ble_eq_true rfl) dX4_isUsable_6 ⟨Nat.le_of_ble_eq_true rfl, Nat.le_of_ble_eq_true rfl⟩ (fun i_2 w H locs hH h => ?_)
  refine lv_if_eq hx hb dX4_isUsable_9 (tgt := 14) (by decide) (fun c_3 => ?_) (fun c_3 => ?_)
  · have h := h.1 c_3
    refine hx_aload_n C0 dX4_isUsable_14 rfl (lv_at hl 0 rfl) ?_
    refine lv_iload_n hx hb dX4_isUsable_15 rfl (lv_at hl 1 rfl) ?_
    refine lv_iload_n hx hb dX4_isUsable_16 rfl (lv_at hl 2 rfl) ?_
    obtain ⟨ho, h⟩ := h
    refine hx_Vi C0 hU hH (As := [.int x1, .int x2]) (wk_X4_usable l h) (cwV 2 hts (lw_V q1212 q1214 qs37 q71 q1215) rfl rfl rfl (by decide +kernel) ⟨Nat.le_of_ble_eq_true rfl, Nat.le_of_ble_eq_true rfl⟩) (hx_recv hU hH (ci := 3) rfl ho) rfl hl.1 rfl (Nat.le_of_ble_eq_true rfl) dX4_isUsable_17 ⟨Nat.le_of_ble_eq_true rfl, Nat.le_of_ble_eq_true rfl⟩ (fun i_4 w H locs hH h => ?_)
    obtain ⟨hz, h⟩ := h
    exact hx_retz C0 hH hr hlocks hz h (Nat.le_of_ble_eq_true rfl) (Nat.le_of_ble_eq_true rfl) dX4_isUsable_20
  · have h := h.2 c_3
    refine lv_iconst (v := 0) hx hb dX4_isUsable_12 (by decide) ?_
    exact hx_retz C0 hH hr hlocks (Or.inl rfl) h (Nat.le_of_ble_eq_true rfl) (Nat.le_of_ble_eq_true rfl) dX4_isUsable_13
def wp_X4_flight (w : Hp) (a0 : Nat) (x1 : Int32) (x2 : Int32) (K : Hp → Int32 → Prop) : Prop :=
  wp_X4_pair w x1 x2 fun w i_1 => isO w a0 3 <| wp_X4_isWrong w a0 i_1 fun w i_2 => br (i_2 = 0) (gR w a0 3 13 fun r_4 => dR r_4 fun b_5 => aR w b_5 x1 fun r_6 => dR r_6 fun b_7 => aI w b_7 x2 fun i_8 => K w i_8) (K w (0 : Int32))
abbrev rm_X4_flight : Room := { frames := 3, cells := 0, slots := 0, locals := 66 }
abbrev ws9_X4_flight : List Cond := ws_ yX4_flight cX4_flight 3 (Option.some Jvm.ClassFile.FieldType.int)
abbrev Q9_X4_flight (below : List Frame) (args : Array Value) (s : State) (G : hG) (K : Hp → Int32 → Prop) : State → Prop := MQ below (hx_Qi G K) args s 0 0 (hx_A G)
set_option maxHeartbeats 4000000 in
set_option maxRecDepth 100000 in
theorem wk_X4_flight (l : Launch) {G : hG} {w : Hp} {a0 : Nat} {x1 : Int32} {x2 : Int32} {K : Hp → Int32 → Prop} (h : wp_X4_flight w a0 x1 x2 K) : hx_Mi l yX4_flight (ws9_X4_flight) rm_X4_flight G w [.ref a0, .int x1, .int x2] K 0 0 := by
  refine Met.ofW (cc := cX4_flight) (maxL := 3) (ret := (Option.some Jvm.ClassFile.FieldType.int)) (by decide +kernel) rfl ?_
  intro p e s m args below meth c s₁ B hml hv
  refine hx_in (own := RX4) (av := [.ref a0, .int x1, .int x2]) (vl := [(0, va_rf (some a0)), (1, .int x1), (2, .int x2)]) rfl rfl (Nat.le_of_ble_eq_true rfl) rfl B hml hv ?_
  intro C0 hU hH hr hlocks hin ls hl
  have hx := C0.1
  have hb := C0.2.1
  have hts := C0.2.2.2.2
  refine hx_aload_n C0 dX4_flight_0 rfl (lv_at hl 0 rfl) ?_
  refine lv_iload_n hx hb dX4_flight_1 rfl (lv_at hl 1 rfl) ?_
  refine lv_iload_n hx hb dX4_flight_2 rfl (lv_at hl 2 rfl) ?_
  refine hx_Si C0 hU hH (As := [.int x1, .int x2]) (wk_X4_pair l h) (va_cwS 2 hts (lw_S q1189 q1190 q71 q1191) rfl rfl rfl (by decide +kernel) ⟨Nat.le_of_ble_eq_true rfl, Nat.le_of_ble_eq_true rfl⟩) rfl hl.1 rfl (Nat.le_of_ble_eq_true rfl) dX4_flight_3 ⟨Nat.le_of_ble_eq_true rfl, Nat.le_of_ble_eq_true rfl⟩ (fun i_1 w H locs hH h => ?_)
  obtain ⟨ho, h⟩ := h
  refine hx_Vi C0 hU hH (As := [.int i_1]) (wk_X4_isWrong l h) (cwV 1 hts (lw_V q1166 q1168 qs34 q71 q1169) rfl rfl rfl (by decide +kernel) ⟨Nat.le_of_ble_eq_true rfl, Nat.le_of_ble_eq_true rfl⟩) (hx_recv hU hH (ci := 3) rfl ho) rfl hl.1 rfl (Nat.le_of_ble_eq_true rfl) dX4_flight_6 ⟨Nat.le_of_ble_eq_true rfl, Nat.le_of_ble_eq_true rfl⟩ (fun i_2 w H locs hH h => ?_)
  refine lv_if_eq hx hb dX4_flight_9 (tgt := 14) (by decide) (fun c_3 => ?_) (fun c_3 => ?_)
  · have h := h.1 c_3
    refine hx_aload_n C0 dX4_flight_14 rfl (lv_at hl 0 rfl) ?_
    refine hx_gR C0 hU hH (ci := 3) rfl in_X4 13 (by decide) q1084 (fun _ h9 => h9) h dX4_flight_15 (fun r_4 h => ?_)
    refine lv_iload_n hx hb dX4_flight_18 rfl (lv_at hl 1 rfl) ?_
    obtain ⟨b_5, rfl, h9⟩ := h
    have h := h9
    clear h9
    refine hx_aR C0 hU hH h dX4_flight_19 (fun r_6 h => ?_)
    refine lv_iload_n hx hb dX4_flight_20 rfl (lv_at hl 2 rfl) ?_
    obtain ⟨b_7, rfl, h9⟩ := h
    have h := h9
    clear h9
    refine hx_aI C0 hU hH h dX4_flight_21 (fun i_8 h => ?_)
    exact hx_reti C0 hH hr hlocks h (Nat.le_of_ble_eq_true rfl) (Nat.le_of_ble_eq_true rfl) dX4_flight_22
  · have h := h.2 c_3
    refine lv_iconst (v := 0) hx hb dX4_flight_12 (by decide) ?_
    exact hx_reti C0 hH hr hlocks h (Nat.le_of_ble_eq_true rfl) (Nat.le_of_ble_eq_true rfl) dX4_flight_13
def wp_X4_waiting (w : Hp) (a0 : Nat) (x1 : Int32) (x2 : Int32) (K : Hp → Int32 → Prop) : Prop :=
  wp_X4_pair w x1 x2 fun w i_1 => isO w a0 3 <| wp_X4_isWrong w a0 i_1 fun w i_2 => br (i_2 = 0) (gR w a0 3 19 fun r_4 => dR r_4 fun b_5 => aR w b_5 x1 fun r_6 => dR r_6 fun b_7 => aI w b_7 x2 fun i_8 => K w i_8) (K w (0 : Int32))
abbrev rm_X4_waiting : Room := { frames := 3, cells := 0, slots := 0, locals := 66 }
abbrev ws9_X4_waiting : List Cond := ws_ yX4_waiting cX4_waiting 3 (Option.some Jvm.ClassFile.FieldType.int)
abbrev Q9_X4_waiting (below : List Frame) (args : Array Value) (s : State) (G : hG) (K : Hp → Int32 → Prop) : State → Prop := MQ below (hx_Qi G K) args s 0 0 (hx_A G)
set_option maxHeartbeats 4000000 in
set_option maxRecDepth 100000 in
theorem wk_X4_waiting (l : Launch) {G : hG} {w : Hp} {a0 : Nat} {x1 : Int32} {x2 : Int32} {K : Hp → Int32 → Prop} (h : wp_X4_waiting w a0 x1 x2 K) : hx_Mi l yX4_waiting (ws9_X4_waiting) rm_X4_waiting G w [.ref a0, .int x1, .int x2] K 0 0 := by
  refine Met.ofW (cc := cX4_waiting) (maxL := 3) (ret := (Option.some Jvm.ClassFile.FieldType.int)) (by decide +kernel) rfl ?_
  intro p e s m args below meth c s₁ B hml hv
  refine hx_in (own := RX4) (av := [.ref a0, .int x1, .int x2]) (vl := [(0, va_rf (some a0)), (1, .int x1), (2, .int x2)]) rfl rfl (Nat.le_of_ble_eq_true rfl) rfl B hml hv ?_
  intro C0 hU hH hr hlocks hin ls hl
  have hx := C0.1
  have hb := C0.2.1
  have hts := C0.2.2.2.2
  refine hx_aload_n C0 dX4_waiting_0 rfl (lv_at hl 0 rfl) ?_
  refine lv_iload_n hx hb dX4_waiting_1 rfl (lv_at hl 1 rfl) ?_
  refine lv_iload_n hx hb dX4_waiting_2 rfl (lv_at hl 2 rfl) ?_
  refine hx_Si C0 hU hH (As := [.int x1, .int x2]) (wk_X4_pair l h) (va_cwS 2 hts (lw_S q1189 q1190 q71 q1191) rfl rfl rfl (by decide +kernel) ⟨Nat.le_of_ble_eq_true rfl, Nat.le_of_ble_eq_true rfl⟩) rfl hl.1 rfl (Nat.le_of_ble_eq_true rfl) dX4_waiting_3 ⟨Nat.le_of_ble_eq_true rfl, Nat.le_of_ble_eq_true rfl⟩ (fun i_1 w H locs hH h => ?_)
  obtain ⟨ho, h⟩ := h
  refine hx_Vi C0 hU hH (As := [.int i_1]) (wk_X4_isWrong l h) (cwV 1 hts (lw_V q1166 q1168 qs34 q71 q1169) rfl rfl rfl (by decide +kernel) ⟨Nat.le_of_ble_eq_true rfl, Nat.le_of_ble_eq_true rfl⟩) (hx_recv hU hH (ci := 3) rfl ho) rfl hl.1 rfl (Nat.le_of_ble_eq_true rfl) dX4_waiting_6 ⟨Nat.le_of_ble_eq_true rfl, Nat.le_of_ble_eq_true rfl⟩ (fun i_2 w H locs hH h => ?_)
  refine lv_if_eq hx hb dX4_waiting_9 (tgt := 14) (by decide) (fun c_3 => ?_) (fun c_3 => ?_)
  · have h := h.1 c_3
    refine hx_aload_n C0 dX4_waiting_14 rfl (lv_at hl 0 rfl) ?_
    refine hx_gR C0 hU hH (ci := 3) rfl in_X4 19 (by decide) q1090 (fun _ h9 => h9) h dX4_waiting_15 (fun r_4 h => ?_)
    refine lv_iload_n hx hb dX4_waiting_18 rfl (lv_at hl 1 rfl) ?_
    obtain ⟨b_5, rfl, h9⟩ := h
    have h := h9
    clear h9
    refine hx_aR C0 hU hH h dX4_waiting_19 (fun r_6 h => ?_)
    refine lv_iload_n hx hb dX4_waiting_20 rfl (lv_at hl 2 rfl) ?_
    obtain ⟨b_7, rfl, h9⟩ := h
    have h := h9
    clear h9
    refine hx_aI C0 hU hH h dX4_waiting_21 (fun i_8 h => ?_)
    exact hx_reti C0 hH hr hlocks h (Nat.le_of_ble_eq_true rfl) (Nat.le_of_ble_eq_true rfl) dX4_waiting_22
  · have h := h.2 c_3
    refine lv_iconst (v := 0) hx hb dX4_waiting_12 (by decide) ?_
    exact hx_reti C0 hH hr hlocks h (Nat.le_of_ble_eq_true rfl) (Nat.le_of_ble_eq_true rfl) dX4_waiting_13
def wp_X4_cookie (w : Hp) (a0 : Nat) (x1 : Int32) (x2 : Int32) (K : Hp → Int32 → Prop) : Prop :=
  wp_X4_pair w x1 x2 fun w i_1 => isO w a0 3 <| wp_X4_isWrong w a0 i_1 fun w i_2 => br (i_2 = 0) (isO w a0 3 <| wp_X4_hasCookie w a0 x1 x2 fun w i_4 => br (i_4 = 0) (K w (-1 : Int32)) (gR w a0 3 17 fun r_6 => dR r_6 fun b_7 => aR w b_7 x1 fun r_8 => dR r_8 fun b_9 => aI w b_9 x2 fun i_10 => K w i_10)) (K w (0 : Int32))
abbrev rm_X4_cookie : Room := { frames := 3, cells := 0, slots := 0, locals := 66 }
abbrev ws9_X4_cookie : List Cond := ws_ yX4_cookie cX4_cookie 3 (Option.some Jvm.ClassFile.FieldType.int)
abbrev Q9_X4_cookie (below : List Frame) (args : Array Value) (s : State) (G : hG) (K : Hp → Int32 → Prop) : State → Prop := MQ below (hx_Qi G K) args s 0 0 (hx_A G)
set_option maxHeartbeats 4000000 in
set_option maxRecDepth 100000 in
theorem wk_X4_cookie (l : Launch) {G : hG} {w : Hp} {a0 : Nat} {x1 : Int32} {x2 : Int32} {K : Hp → Int32 → Prop} (h : wp_X4_cookie w a0 x1 x2 K) : hx_Mi l yX4_cookie (ws9_X4_cookie) rm_X4_cookie G w [.ref a0, .int x1, .int x2] K 0 0 := by
  refine Met.ofW (cc := cX4_cookie) (maxL := 3) (ret := (Option.some Jvm.ClassFile.FieldType.int)) (by decide +kernel) rfl ?_
  intro p e s m args below meth c s₁ B hml hv
  refine hx_in (own := RX4) (av := [.ref a0, .int x1, .int x2]) (vl := [(0, va_rf (some a0)), (1, .int x1), (2, .int x2)]) rfl rfl (Nat.le_of_ble_eq_true rfl) rfl B hml hv ?_
  intro C0 hU hH hr hlocks hin ls hl
  have hx := C0.1
  have hb := C0.2.1
  have hts := C0.2.2.2.2
  refine hx_aload_n C0 dX4_cookie_0 rfl (lv_at hl 0 rfl) ?_
  refine lv_iload_n hx hb dX4_cookie_1 rfl (lv_at hl 1 rfl) ?_
  refine lv_iload_n hx hb dX4_cookie_2 rfl (lv_at hl 2 rfl) ?_
  refine hx_Si C0 hU hH (As := [.int x1, .int x2]) (wk_X4_pair l h) (va_cwS 2 hts (lw_S q1189 q1190 q71 q1191) rfl rfl rfl (by decide +kernel) ⟨Nat.le_of_ble_eq_true rfl, Nat.le_of_ble_eq_true rfl⟩) rfl hl.1 rfl (Nat.le_of_ble_eq_true rfl) dX4_cookie_3 ⟨Nat.le_of_ble_eq_true rfl, Nat.le_of_ble_eq_true rfl⟩ (fun i_1 w H locs hH h => ?_)
  obtain ⟨ho, h⟩ := h
  refine hx_Vi C0 hU hH (As := [.int i_1]) (wk_X4_isWrong l h) (cwV 1 hts (lw_V q1166 q1168 qs34 q71 q1169) rfl rfl rfl (by decide +kernel) ⟨Nat.le_of_ble_eq_true rfl, Nat.le_of_ble_eq_true rfl⟩) (hx_recv hU hH (ci := 3) rfl ho) rfl hl.1 rfl (Nat.le_of_ble_eq_true rfl) dX4_cookie_6 ⟨Nat.le_of_ble_eq_true rfl, Nat.le_of_ble_eq_true rfl⟩ (fun i_2 w H locs hH h => ?_)
  refine lv_if_eq hx hb dX4_cookie_9 (tgt := 14) (by decide) (fun c_3 => ?_) (fun c_3 => ?_)
  · have h := h.1 c_3
    refine hx_aload_n C0 dX4_cookie_14 rfl (lv_at hl 0 rfl) ?_
    refine lv_iload_n hx hb dX4_cookie_15 rfl (lv_at hl 1 rfl) ?_
    refine lv_iload_n hx hb dX4_cookie_16 rfl (lv_at hl 2 rfl) ?_
    obtain ⟨ho, h⟩ := h
    refine hx_Vi C0 hU hH (As := [.int x1, .int x2]) (wk_X4_hasCookie l h) (cwV 2 hts (lw_V q1278 q1280 qs45 q71 q1281) rfl rfl rfl (by decide +kernel) ⟨Nat.le_of_ble_eq_true rfl, Nat.le_of_ble_eq_true rfl⟩) (hx_recv hU hH (ci := 3) rfl ho) rfl hl.1 rfl (Nat.le_of_ble_eq_true rfl) dX4_cookie_17 ⟨Nat.le_of_ble_eq_true rfl, Nat.le_of_ble_eq_true rfl⟩ (fun i_4 w H locs hH h => ?_)
    refine lv_if_eq hx hb dX4_cookie_20 (tgt := 34) (by decide) (fun c_5 => ?_) (fun c_5 => ?_)
    · have h := h.1 c_5
      refine lv_iconst (v := -1) hx hb dX4_cookie_34 (by decide) ?_
      exact hx_reti C0 hH hr hlocks h (Nat.le_of_ble_eq_true rfl) (Nat.le_of_ble_eq_true rfl) dX4_cookie_35
    · have h := h.2 c_5
      refine hx_aload_n C0 dX4_cookie_23 rfl (lv_at hl 0 rfl) ?_
      refine hx_gR C0 hU hH (ci := 3) rfl in_X4 17 (by decide) q1088 (fun _ h9 => h9) h dX4_cookie_24 (fun r_6 h => ?_)
      refine lv_iload_n hx hb dX4_cookie_27 rfl (lv_at hl 1 rfl) ?_
      obtain ⟨b_7, rfl, h9⟩ := h
      have h := h9
      clear h9
      refine hx_aR C0 hU hH h dX4_cookie_28 (fun r_8 h => ?_)
      refine lv_iload_n hx hb dX4_cookie_29 rfl (lv_at hl 2 rfl) ?_
      obtain ⟨b_9, rfl, h9⟩ := h
      have h := h9
      clear h9
      refine hx_aI C0 hU hH h dX4_cookie_30 (fun i_10 h => ?_)
      refine lv_goto hx hb dX4_cookie_31 (tgt := 35) (by decide) ?_
      exact hx_reti C0 hH hr hlocks h (Nat.le_of_ble_eq_true rfl) (Nat.le_of_ble_eq_true rfl) dX4_cookie_35
  · have h := h.2 c_3
    refine lv_iconst (v := 0) hx hb dX4_cookie_12 (by decide) ?_
    exact hx_reti C0 hH hr hlocks h (Nat.le_of_ble_eq_true rfl) (Nat.le_of_ble_eq_true rfl) dX4_cookie_13
def wp_X4_stamp (w : Hp) (a0 : Nat) (x1 : Int32) (x2 : Int32) (x3 : Int32) (K : Hp → Int32 → Prop) : Prop :=
  wp_X4_pair w x1 x2 fun w i_1 => isO w a0 3 <| wp_X4_isWrong w a0 i_1 fun w i_2 => br (i_2 = 0) (br (x3 = 0) (gR w a0 3 11 fun r_5 => dR r_5 fun b_6 => aR w b_6 x1 fun r_7 => dR r_7 fun b_8 => aI w b_8 x2 fun i_9 => K w i_9) (gR w a0 3 12 fun r_10 => dR r_10 fun b_11 => aR w b_11 x1 fun r_12 => dR r_12 fun b_13 => aI w b_13 x2 fun i_14 => K w i_14)) (K w (0 : Int32))
abbrev rm_X4_stamp : Room := { frames := 3, cells := 0, slots := 0, locals := 66 }
abbrev ws9_X4_stamp : List Cond := ws_ yX4_stamp cX4_stamp 4 (Option.some Jvm.ClassFile.FieldType.int)
abbrev Q9_X4_stamp (below : List Frame) (args : Array Value) (s : State) (G : hG) (K : Hp → Int32 → Prop) : State → Prop := MQ below (hx_Qi G K) args s 0 0 (hx_A G)
set_option maxHeartbeats 4000000 in
set_option maxRecDepth 100000 in
theorem wk_X4_stamp (l : Launch) {G : hG} {w : Hp} {a0 : Nat} {x1 : Int32} {x2 : Int32} {x3 : Int32} {K : Hp → Int32 → Prop} (h : wp_X4_stamp w a0 x1 x2 x3 K) : hx_Mi l yX4_stamp (ws9_X4_stamp) rm_X4_stamp G w [.ref a0, .int x1, .int x2, .int x3] K 0 0 := by
  refine Met.ofW (cc := cX4_stamp) (maxL := 4) (ret := (Option.some Jvm.ClassFile.FieldType.int)) (by decide +kernel) rfl ?_
  intro p e s m args below meth c s₁ B hml hv
  refine hx_in (own := RX4) (av := [.ref a0, .int x1, .int x2, .int x3]) (vl := [(0, va_rf (some a0)), (1, .int x1), (2, .int x2), (3, .int x3)]) rfl rfl (Nat.le_of_ble_eq_true rfl) rfl B hml hv ?_
  intro C0 hU hH hr hlocks hin ls hl
  have hx := C0.1
  have hb := C0.2.1
  have hts := C0.2.2.2.2
  refine hx_aload_n C0 dX4_stamp_0 rfl (lv_at hl 0 rfl) ?_
  refine lv_iload_n hx hb dX4_stamp_1 rfl (lv_at hl 1 rfl) ?_
  refine lv_iload_n hx hb dX4_stamp_2 rfl (lv_at hl 2 rfl) ?_
  refine hx_Si C0 hU hH (As := [.int x1, .int x2]) (wk_X4_pair l h) (va_cwS 2 hts (lw_S q1189 q1190 q71 q1191) rfl rfl rfl (by decide +kernel) ⟨Nat.le_of_ble_eq_true rfl, Nat.le_of_ble_eq_true rfl⟩) rfl hl.1 rfl (Nat.le_of_ble_eq_true rfl) dX4_stamp_3 ⟨Nat.le_of_ble_eq_true rfl, Nat.le_of_ble_eq_true rfl⟩ (fun i_1 w H locs hH h => ?_)
  obtain ⟨ho, h⟩ := h
  refine hx_Vi C0 hU hH (As := [.int i_1]) (wk_X4_isWrong l h) (cwV 1 hts (lw_V q1166 q1168 qs34 q71 q1169) rfl rfl rfl (by decide +kernel) ⟨Nat.le_of_ble_eq_true rfl, Nat.le_of_ble_eq_true rfl⟩) (hx_recv hU hH (ci := 3) rfl ho) rfl hl.1 rfl (Nat.le_of_ble_eq_true rfl) dX4_stamp_6 ⟨Nat.le_of_ble_eq_true rfl, Nat.le_of_ble_eq_true rfl⟩ (fun i_2 w H locs hH h => ?_)
  refine lv_if_eq hx hb dX4_stamp_9 (tgt := 14) (by decide) (fun c_3 => ?_) (fun c_3 => ?_)
  · have h := h.1 c_3
    refine lv_iload_n hx hb dX4_stamp_14 rfl (lv_at hl 3 rfl) ?_
    refine lv_if_eq hx hb dX4_stamp_15 (tgt := 29) (by decide) (fun c_4 => ?_) (fun c_4 => ?_)
    · have h := h.1 c_4
      refine hx_aload_n C0 dX4_stamp_29 rfl (lv_at hl 0 rfl) ?_
      refine hx_gR C0 hU hH (ci := 3) rfl in_X4 11 (by decide) q1082 (fun _ h9 => h9) h dX4_stamp_30 (fun r_5 h => ?_)
      refine lv_iload_n hx hb dX4_stamp_33 rfl (lv_at hl 1 rfl) ?_
      obtain ⟨b_6, rfl, h9⟩ := h
      have h := h9
      clear h9
      refine hx_aR C0 hU hH h dX4_stamp_34 (fun r_7 h => ?_)
      refine lv_iload_n hx hb dX4_stamp_35 rfl (lv_at hl 2 rfl) ?_
      obtain ⟨b_8, rfl, h9⟩ := h
      have h := h9
      clear h9
      refine hx_aI C0 hU hH h dX4_stamp_36 (fun i_9 h => ?_)
      exact hx_reti C0 hH hr hlocks h (Nat.le_of_ble_eq_true rfl) (Nat.le_of_ble_eq_true rfl) dX4_stamp_37
    · have h := h.2 c_4
      refine hx_aload_n C0 dX4_stamp_18 rfl (lv_at hl 0 rfl) ?_
      refine hx_gR C0 hU hH (ci := 3) rfl in_X4 12 (by decide) q1083 (fun _ h9 => h9) h dX4_stamp_19 (fun r_10 h => ?_)
      refine lv_iload_n hx hb dX4_stamp_22 rfl (lv_at hl 1 rfl) ?_
      obtain ⟨b_11, rfl, h9⟩ := h
      have h := h9
      clear h9
      refine hx_aR C0 hU hH h dX4_stamp_23 (fun r_12 h => ?_)
      refine lv_iload_n hx hb dX4_stamp_24 rfl (lv_at hl 2 rfl) ?_
      obtain ⟨b_13, rfl, h9⟩ := h
      have h := h9
      clear h9
      refine hx_aI C0 hU hH h dX4_stamp_25 (fun i_14 h => ?_)
      refine lv_goto hx hb dX4_stamp_26 (tgt := 37) (by decide) ?_
      exact hx_reti C0 hH hr hlocks h (Nat.le_of_ble_eq_true rfl) (Nat.le_of_ble_eq_true rfl) dX4_stamp_37
  · have h := h.2 c_3
    refine lv_iconst (v := 0) hx hb dX4_stamp_12 (by decide) ?_
    exact hx_reti C0 hH hr hlocks h (Nat.le_of_ble_eq_true rfl) (Nat.le_of_ble_eq_true rfl) dX4_stamp_13
def wp_X4_outs_b13 (K : Hp → Int32 → Prop)  (w : Hp) (a0 : Nat) (x1 : Int32) (t0 : Int32) (at1 : Nat) : Prop :=
  isO w at1 3 <| wp_X4_isWrong w at1 t0 fun w i_1 => br (i_1 = 0) (gR w a0 3 6 fun r_3 => dR r_3 fun b_4 => aI w b_4 x1 fun i_5 => K w i_5) (K w (0 : Int32))
def wp_X4_outs (w : Hp) (a0 : Nat) (x1 : Int32) (K : Hp → Int32 → Prop) : Prop :=
  wp_X4_isEnd w x1 fun w i_1 => br (i_1 = 0) (wp_X4_outs_b13 K w a0 x1 (1 : Int32) a0) (wp_X4_outs_b13 K w a0 x1 (0 : Int32) a0)
abbrev rm_X4_outs : Room := { frames := 2, cells := 0, slots := 0, locals := 45 }
abbrev ws9_X4_outs : List Cond := ws_ yX4_outs cX4_outs 2 (Option.some Jvm.ClassFile.FieldType.int)
abbrev Q9_X4_outs (below : List Frame) (args : Array Value) (s : State) (G : hG) (K : Hp → Int32 → Prop) : State → Prop := MQ below (hx_Qi G K) args s 0 0 (hx_A G)
set_option maxHeartbeats 4000000 in
set_option maxRecDepth 100000 in
theorem wk_X4_outs (l : Launch) {G : hG} {w : Hp} {a0 : Nat} {x1 : Int32} {K : Hp → Int32 → Prop} (h : wp_X4_outs w a0 x1 K) : hx_Mi l yX4_outs (ws9_X4_outs) rm_X4_outs G w [.ref a0, .int x1] K 0 0 := by
  refine Met.ofW (cc := cX4_outs) (maxL := 2) (ret := (Option.some Jvm.ClassFile.FieldType.int)) (by decide +kernel) rfl ?_
  intro p e s m args below meth c s₁ B hml hv
  refine hx_in (own := RX4) (av := [.ref a0, .int x1]) (vl := [(0, va_rf (some a0)), (1, .int x1)]) rfl rfl (Nat.le_of_ble_eq_true rfl) rfl B hml hv ?_
  intro C0 hU hH hr hlocks hin ls hl
  have hx := C0.1
  have hb := C0.2.1
  have hts := C0.2.2.2.2
  have b13 : ∀ (w : Hp) (a0 : Nat) (x1 : Int32) (t0 : Int32) (at1 : Nat), wp_X4_outs_b13 K  w a0 x1 t0 at1 → ∀ (H : Heap) (locs : List Loc) (ls : Array Slot), hx_H G w s H locs → lv_has ls 2 [(0, va_rf (some a0)), (1, .int x1)] → W p l e (headSpec (ws9_X4_outs) rm_X4_outs).room s m args below meth c H locs (0) (0) (Q9_X4_outs below args s G K) (F0 m 13 ls [.int t0, va_rf (some at1)]) := by
    intro w a0 x1 t0 at1 h H locs ls hH hl
    obtain ⟨ho, h⟩ := h
    refine hx_Vi C0 hU hH (As := [.int t0]) (wk_X4_isWrong l h) (cwV 1 hts (lw_V q1166 q1168 qs34 q71 q1169) rfl rfl rfl (by decide +kernel) ⟨Nat.le_of_ble_eq_true rfl, Nat.le_of_ble_eq_true rfl⟩) (hx_recv hU hH (ci := 3) rfl ho) rfl hl.1 rfl (Nat.le_of_ble_eq_true rfl) dX4_outs_13 ⟨Nat.le_of_ble_eq_true rfl, Nat.le_of_ble_eq_true rfl⟩ (fun i_1 w H locs hH h => ?_)
    refine lv_if_eq hx hb dX4_outs_16 (tgt := 21) (by decide) (fun c_2 => ?_) (fun c_2 => ?_)
    · have h := h.1 c_2
      refine hx_aload_n C0 dX4_outs_21 rfl (lv_at hl 0 rfl) ?_
      refine hx_gR C0 hU hH (ci := 3) rfl in_X4 6 (by decide) q1077 (fun _ h9 => h9) h dX4_outs_22 (fun r_3 h => ?_)
      refine lv_iload_n hx hb dX4_outs_25 rfl (lv_at hl 1 rfl) ?_
      obtain ⟨b_4, rfl, h9⟩ := h
      have h := h9
      clear h9
      refine hx_aI C0 hU hH h dX4_outs_26 (fun i_5 h => ?_)
      exact hx_reti C0 hH hr hlocks h (Nat.le_of_ble_eq_true rfl) (Nat.le_of_ble_eq_true rfl) dX4_outs_27
    · have h := h.2 c_2
      refine lv_iconst (v := 0) hx hb dX4_outs_19 (by decide) ?_
      exact hx_reti C0 hH hr hlocks h (Nat.le_of_ble_eq_true rfl) (Nat.le_of_ble_eq_true rfl) dX4_outs_20
  refine hx_aload_n C0 dX4_outs_0 rfl (lv_at hl 0 rfl) ?_
  refine lv_iload_n hx hb dX4_outs_1 rfl (lv_at hl 1 rfl) ?_
  refine hx_Si C0 hU hH (As := [.int x1]) (wk_X4_isEnd l h) (va_cwS 1 hts (lw_S q1175 q1176 q71 q1177) rfl rfl rfl (by decide +kernel) ⟨Nat.le_of_ble_eq_true rfl, Nat.le_of_ble_eq_true rfl⟩) rfl hl.1 rfl (Nat.le_of_ble_eq_true rfl) dX4_outs_2 ⟨Nat.le_of_ble_eq_true rfl, Nat.le_of_ble_eq_true rfl⟩ (fun i_1 w H locs hH h => ?_)
  refine lv_if_eq hx hb dX4_outs_5 (tgt := 12) (by decide) (fun c_2 => ?_) (fun c_2 => ?_)
  · have h := h.1 c_2
    refine lv_iconst (v := 1) hx hb dX4_outs_12 (by decide) ?_
    refine W.widen (k := 0) (n := 0) (Nat.le_of_ble_eq_true rfl) (Nat.le_of_ble_eq_true rfl) ?_
    exact b13 _ _ _ _ _ h _ _ _ hH (lv_sub hl [0, 1] rfl)
  · have h := h.2 c_2
    refine lv_iconst (v := 0) hx hb dX4_outs_8 (by decide) ?_
    refine lv_goto hx hb dX4_outs_9 (tgt := 13) (by decide) ?_
    refine W.widen (k := 0) (n := 0) (Nat.le_of_ble_eq_true rfl) (Nat.le_of_ble_eq_true rfl) ?_
    exact b13 _ _ _ _ _ h _ _ _ hH (lv_sub hl [0, 1] rfl)
def wp_X4_out_b109 (K : Hp → Int32 → Prop) (bk72 : Hp → Int32 → Int32 → Int32 → Nat → Int32 → Int32 → Prop) (w : Hp) (x1 : Int32) (x3 : Int32) (x4 : Int32) (a5 : Nat) (x6 : Int32) (x7 : Int32) : Prop :=
  nm (x7 + 1) fun i_1 => bk72 w x1 x3 x4 a5 x6 i_1
def wp_X4_out_s72 (K : Hp → Int32 → Prop)  (bk72 : Hp → Int32 → Int32 → Int32 → Nat → Int32 → Int32 → Prop) (w : Hp) (x1 : Int32) (x3 : Int32) (x4 : Int32) (a5 : Nat) (x6 : Int32) (x7 : Int32) : Prop :=
  br (x6 ≤ x7) (K w (0 : Int32)) (aR w a5 x7 fun r_2 => dR r_2 fun b_3 => aI w b_3 (0 : Int32) fun i_4 => br (i_4 = x1) (nm (x4 + (-1)) fun i_6 => br (x4 = 0) (aI w b_3 ((1 : Int32) + x3) fun i_8 => K w i_8) (wp_X4_out_b109 K bk72 w x1 x3 i_6 a5 x6 x7)) (wp_X4_out_b109 K bk72 w x1 x3 x4 a5 x6 x7))
def wp_X4_out_l72 (K : Hp → Int32 → Prop)  : ((Hp × Int32 × Int32 × Int32 × Nat × Int32 × Int32) → Prop) → (Hp × Int32 × Int32 × Int32 × Nat × Int32 × Int32) → Prop := fun bk q => wp_X4_out_s72 K  (fun w x1 x3 x4 a5 x6 x7 => bk (w, x1, x3, x4, a5, x6, x7)) q.1 q.2.1 q.2.2.1 q.2.2.2.1 q.2.2.2.2.1 q.2.2.2.2.2.1 q.2.2.2.2.2.2
def wp_X4_out_b72 (K : Hp → Int32 → Prop)  (w : Hp) (x1 : Int32) (x3 : Int32) (x4 : Int32) (a5 : Nat) (x6 : Int32) (x7 : Int32) : Prop := lp (wp_X4_out_l72 K ) (w, x1, x3, x4, a5, x6, x7)
def wp_X4_out_b47 (K : Hp → Int32 → Prop)  (w : Hp) (a0 : Nat) (x1 : Int32) (x2 : Int32) (x3 : Int32) (t0 : Int32) (at1 : Nat) : Prop :=
  isO w at1 3 <| wp_X4_isWrong w at1 t0 fun w i_1 => br (i_1 = 0) (gR w a0 3 25 fun r_3 => dR r_3 fun b_4 => aN w b_4 fun i_5 => wp_X4_out_b72 K w x1 x3 x2 b_4 i_5 (0 : Int32)) (K w (0 : Int32))
def wp_X4_out_b26 (K : Hp → Int32 → Prop)  (w : Hp) (a0 : Nat) (x1 : Int32) (x2 : Int32) (x3 : Int32) (at0 : Nat) : Prop :=
  wp_X4_out_b47 K w a0 x1 x2 x3 (1 : Int32) at0
def wp_X4_out (w : Hp) (a0 : Nat) (x1 : Int32) (x2 : Int32) (x3 : Int32) (K : Hp → Int32 → Prop) : Prop :=
  wp_X4_isEnd w x1 fun w i_1 => br (i_1 = 0) (wp_X4_out_b26 K w a0 x1 x2 x3 a0) (gR w a0 3 6 fun r_3 => dR r_3 fun b_4 => aI w b_4 x1 fun i_5 => wp_X4_isBetween w (x2.toInt64) (0 : Int64) (Int32.toInt64 (i_5 - (1 : Int32))) fun w i_6 => br (i_6 = 0) (wp_X4_out_b26 K w a0 x1 x2 x3 a0) (wp_X4_isBetween w (x3.toInt64) (0 : Int64) (3 : Int64) fun w i_8 => br (i_8 = 0) (wp_X4_out_b47 K w a0 x1 x2 x3 (2 : Int32) a0) (wp_X4_out_b47 K w a0 x1 x2 x3 (0 : Int32) a0)))
abbrev rm_X4_out : Room := { frames := 2, cells := 0, slots := 0, locals := 45 }
abbrev ws9_X4_out : List Cond := ws_ yX4_out cX4_out 9 (Option.some Jvm.ClassFile.FieldType.int)
abbrev Q9_X4_out (below : List Frame) (args : Array Value) (s : State) (G : hG) (K : Hp → Int32 → Prop) : State → Prop := MQ below (hx_Qi G K) args s 0 0 (hx_A G)
set_option maxHeartbeats 4000000 in
set_option maxRecDepth 100000 in
theorem wk_X4_out (l : Launch) {G : hG} {w : Hp} {a0 : Nat} {x1 : Int32} {x2 : Int32} {x3 : Int32} {K : Hp → Int32 → Prop} (h : wp_X4_out w a0 x1 x2 x3 K) : hx_Mi l yX4_out (ws9_X4_out) rm_X4_out G w [.ref a0, .int x1, .int x2, .int x3] K 0 0 := by
  refine Met.ofW (cc := cX4_out) (maxL := 9) (ret := (Option.some Jvm.ClassFile.FieldType.int)) (by decide +kernel) rfl ?_
  intro p e s m args below meth c s₁ B hml hv
  refine hx_in (own := RX4) (av := [.ref a0, .int x1, .int x2, .int x3]) (vl := [(0, va_rf (some a0)), (1, .int x1), (2, .int x2), (3, .int x3)]) rfl rfl (Nat.le_of_ble_eq_true rfl) rfl B hml hv ?_
  intro C0 hU hH hr hlocks hin ls hl
  have hx := C0.1
  have hb := C0.2.1
  have hts := C0.2.2.2.2
  have L72 : ∀ (n72 : Nat) (w : Hp) (x1 : Int32) (x3 : Int32) (x4 : Int32) (a5 : Nat) (x6 : Int32) (x7 : Int32), lpN (wp_X4_out_l72 K ) n72 (w, x1, x3, x4, a5, x6, x7) → ∀ (H : Heap) (locs : List Loc) (ls : Array Slot), hx_H G w s H locs → lv_has ls 9 [(1, .int x1), (3, .int x3), (4, .int x4), (5, va_rf (some a5)), (6, .int x6), (7, .int x7)] → W p l e (headSpec (ws9_X4_out) rm_X4_out).room s m args below meth c H locs (0) (0) (Q9_X4_out below args s G K) (F0 m 72 ls []) := by
    intro n72
    induction n72 with
    | zero => intro w x1 x3 x4 a5 x6 x7 h; exact h.elim
    | succ n72 ih72 =>
      intro w x1 x3 x4 a5 x6 x7 h H locs ls hH hl
      have h : wp_X4_out_s72 K  (fun w x1 x3 x4 a5 x6 x7 => lpN (wp_X4_out_l72 K ) n72 (w, x1, x3, x4, a5, x6, x7)) w x1 x3 x4 a5 x6 x7 := h
      have b109 : ∀ (w : Hp) (x1 : Int32) (x3 : Int32) (x4 : Int32) (a5 : Nat) (x6 : Int32) (x7 : Int32), wp_X4_out_b109 K (fun w x1 x3 x4 a5 x6 x7 => lpN (wp_X4_out_l72 K ) n72 (w, x1, x3, x4, a5, x6, x7)) w x1 x3 x4 a5 x6 x7 → ∀ (H : Heap) (locs : List Loc) (ls : Array Slot), hx_H G w s H locs → lv_has ls 9 [(1, .int x1), (3, .int x3), (4, .int x4), (5, va_rf (some a5)), (6, .int x6), (7, .int x7)] → W p l e (headSpec (ws9_X4_out) rm_X4_out).room s m args below meth c H locs (0) (0) (Q9_X4_out below args s G K) (F0 m 109 ls []) := by
        intro w x1 x3 x4 a5 x6 x7 h H locs ls hH hl
        obtain ⟨i_1, ei_1⟩ : ∃ z, z = x7 + 1 := ⟨_, rfl⟩
        have h := h i_1 ei_1
        refine lv_iinc (k := 5) hx hb dX4_out_109 hl rfl (v := i_1) (by rw [ei_1]; rfl) (by decide) (lv' := [(7, .int i_1), (1, .int x1), (3, .int x3), (4, .int x4), (5, va_rf (some a5)), (6, .int x6)]) rfl (fun ls hl => ?_)
        refine lv_goto hx hb dX4_out_112 (tgt := 72) (by decide) ?_
        refine W.widen (k := 0) (n := 0) (Nat.le_of_ble_eq_true rfl) (Nat.le_of_ble_eq_true rfl) ?_
        exact ih72 _ _ _ _ _ _ _ h _ _ _ hH (lv_sub hl [1, 2, 3, 4, 5, 0] rfl)
      refine lv_iload hx hb dX4_out_72 (lv_at hl 5 rfl) ?_
      refine lv_iload hx hb dX4_out_74 (lv_at hl 4 rfl) ?_
      refine lv_icmp_ge hx hb dX4_out_76 (tgt := 115) (by decide) (fun c_1 => ?_) (fun c_1 => ?_)
      · have h := h.1 c_1
        refine lv_iconst (v := 0) hx hb dX4_out_115 (by decide) ?_
        exact hx_reti C0 hH hr hlocks h (Nat.le_of_ble_eq_true rfl) (Nat.le_of_ble_eq_true rfl) dX4_out_116
      · have h := h.2 c_1
        refine hx_aload C0 dX4_out_79 (lv_at hl 3 rfl) ?_
        refine lv_iload hx hb dX4_out_81 (lv_at hl 5 rfl) ?_
        refine hx_aR C0 hU hH h dX4_out_83 (fun r_2 h => ?_)
        refine hx_astore C0 dX4_out_84 hl (by decide) (lv' := [(8, va_rf r_2), (1, .int x1), (3, .int x3), (4, .int x4), (5, va_rf (some a5)), (6, .int x6), (7, .int x7)]) rfl (fun ls hl => ?_)
        refine hx_aload C0 dX4_out_86 (lv_at hl 0 rfl) ?_
        refine lv_iconst (v := 0) hx hb dX4_out_88 (by decide) ?_
        obtain ⟨b_3, rfl, h9⟩ := h
        have h := h9
        clear h9
        refine hx_aI C0 hU hH h dX4_out_89 (fun i_4 h => ?_)
        refine lv_iload_n hx hb dX4_out_90 rfl (lv_at hl 1 rfl) ?_
        refine lv_icmp_ne hx hb dX4_out_91 (tgt := 109) (by decide) (fun c_5 => ?_) (fun c_5 => ?_)
        · have h := h.2 c_5
          refine W.widen (k := 0) (n := 0) (Nat.le_of_ble_eq_true rfl) (Nat.le_of_ble_eq_true rfl) ?_
          exact b109 _ _ _ _ _ _ _ h _ _ _ hH (lv_sub hl [1, 2, 3, 4, 5, 6] rfl)
        · have h := h.1 c_5
          refine lv_iload hx hb dX4_out_94 (lv_at hl 3 rfl) ?_
          obtain ⟨i_6, ei_6⟩ : ∃ z, z = x4 + (-1) := ⟨_, rfl⟩
          have h := h i_6 ei_6
          refine lv_iinc (k := 3) hx hb dX4_out_96 hl rfl (v := i_6) (by rw [ei_6]; rfl) (by decide) (lv' := [(4, .int i_6), (8, va_rf (some b_3)), (1, .int x1), (3, .int x3), (5, va_rf (some a5)), (6, .int x6), (7, .int x7)]) rfl (fun ls hl => ?_)
          refine lv_if_ne hx hb dX4_out_99 (tgt := 109) (by decide) (fun c_7 => ?_) (fun c_7 => ?_)
          · have h := h.2 c_7
            refine W.widen (k := 0) (n := 0) (Nat.le_of_ble_eq_true rfl) (Nat.le_of_ble_eq_true rfl) ?_
            exact b109 _ _ _ _ _ _ _ h _ _ _ hH (lv_sub hl [2, 3, 0, 4, 5, 6] rfl)
          · have h := h.1 c_7
            refine hx_aload C0 dX4_out_102 (lv_at hl 1 rfl) ?_
            refine lv_iconst (v := 1) hx hb dX4_out_104 (by decide) ?_
            refine lv_iload_n hx hb dX4_out_105 rfl (lv_at hl 3 rfl) ?_
            refine lv_iadd hx hb dX4_out_106 ?_
            refine hx_aI C0 hU hH h dX4_out_107 (fun i_8 h => ?_)
            exact hx_reti C0 hH hr hlocks h (Nat.le_of_ble_eq_true rfl) (Nat.le_of_ble_eq_true rfl) dX4_out_108
  have b47 : ∀ (w : Hp) (a0 : Nat) (x1 : Int32) (x2 : Int32) (x3 : Int32) (t0 : Int32) (at1 : Nat), wp_X4_out_b47 K  w a0 x1 x2 x3 t0 at1 → ∀ (H : Heap) (locs : List Loc) (ls : Array Slot), hx_H G w s H locs → lv_has ls 9 [(0, va_rf (some a0)), (1, .int x1), (2, .int x2), (3, .int x3)] → W p l e (headSpec (ws9_X4_out) rm_X4_out).room s m args below meth c H locs (0) (0) (Q9_X4_out below args s G K) (F0 m 47 ls [.int t0, va_rf (some at1)]) := by
    intro w a0 x1 x2 x3 t0 at1 h H locs ls hH hl
    obtain ⟨ho, h⟩ := h
    refine hx_Vi C0 hU hH (As := [.int t0]) (wk_X4_isWrong l h) (cwV 1 hts (lw_V q1166 q1168 qs34 q71 q1169) rfl rfl rfl (by decide +kernel) ⟨Nat.le_of_ble_eq_true rfl, Nat.le_of_ble_eq_true rfl⟩) (hx_recv hU hH (ci := 3) rfl ho) rfl hl.1 rfl (Nat.le_of_ble_eq_true rfl) dX4_out_47 ⟨Nat.le_of_ble_eq_true rfl, Nat.le_of_ble_eq_true rfl⟩ (fun i_1 w H locs hH h => ?_)
    refine lv_if_eq hx hb dX4_out_50 (tgt := 55) (by decide) (fun c_2 => ?_) (fun c_2 => ?_)
    · have h := h.1 c_2
      refine lv_iload_n hx hb dX4_out_55 rfl (lv_at hl 2 rfl) ?_
      refine lv_istore hx hb dX4_out_56 hl (by decide) (lv' := [(4, .int x2), (0, va_rf (some a0)), (1, .int x1), (2, .int x2), (3, .int x3)]) rfl (fun ls hl => ?_)
      refine hx_aload_n C0 dX4_out_58 rfl (lv_at hl 1 rfl) ?_
      refine hx_gR C0 hU hH (ci := 3) rfl in_X4 25 (by decide) q1096 (fun _ h9 => h9) h dX4_out_59 (fun r_3 h => ?_)
      refine hx_astore C0 dX4_out_62 hl (by decide) (lv' := [(5, va_rf r_3), (4, .int x2), (0, va_rf (some a0)), (1, .int x1), (2, .int x2), (3, .int x3)]) rfl (fun ls hl => ?_)
      refine hx_aload C0 dX4_out_64 (lv_at hl 0 rfl) ?_
      obtain ⟨b_4, rfl, h9⟩ := h
      have h := h9
      clear h9
      refine hx_aN C0 hU hH h dX4_out_66 (fun i_5 h => ?_)
      refine lv_istore hx hb dX4_out_67 hl (by decide) (lv' := [(6, .int i_5), (5, va_rf (some b_4)), (4, .int x2), (0, va_rf (some a0)), (1, .int x1), (2, .int x2), (3, .int x3)]) rfl (fun ls hl => ?_)
      refine lv_iconst (v := 0) hx hb dX4_out_69 (by decide) ?_
      refine lv_istore hx hb dX4_out_70 hl (by decide) (lv' := [(7, .int (0 : Int32)), (6, .int i_5), (5, va_rf (some b_4)), (4, .int x2), (0, va_rf (some a0)), (1, .int x1), (2, .int x2), (3, .int x3)]) rfl (fun ls hl => ?_)
      obtain ⟨n9, h⟩ := h
      refine W.widen (k := 0) (n := 0) (Nat.le_of_ble_eq_true rfl) (Nat.le_of_ble_eq_true rfl) ?_
      exact L72 n9 _ _ _ _ _ _ _ h _ _ _ hH (lv_sub hl [5, 7, 3, 2, 1, 0] rfl)
    · have h := h.2 c_2
      refine lv_iconst (v := 0) hx hb dX4_out_53 (by decide) ?_
      exact hx_reti C0 hH hr hlocks h (Nat.le_of_ble_eq_true rfl) (Nat.le_of_ble_eq_true rfl) dX4_out_54
  have b26 : ∀ (w : Hp) (a0 : Nat) (x1 : Int32) (x2 : Int32) (x3 : Int32) (at0 : Nat), wp_X4_out_b26 K  w a0 x1 x2 x3 at0 → ∀ (H : Heap) (locs : List Loc) (ls : Array Slot), hx_H G w s H locs → lv_has ls 9 [(0, va_rf (some a0)), (1, .int x1), (2, .int x2), (3, .int x3)] → W p l e (headSpec (ws9_X4_out) rm_X4_out).room s m args below meth c H locs (0) (0) (Q9_X4_out below args s G K) (F0 m 26 ls [va_rf (some at0)]) := by
    intro w a0 x1 x2 x3 at0 h H locs ls hH hl
    refine lv_iconst (v := 1) hx hb dX4_out_26 (by decide) ?_
    refine lv_goto hx hb dX4_out_27 (tgt := 47) (by decide) ?_
    refine W.widen (k := 0) (n := 0) (Nat.le_of_ble_eq_true rfl) (Nat.le_of_ble_eq_true rfl) ?_
    exact b47 _ _ _ _ _ _ _ h _ _ _ hH (lv_sub hl [0, 1, 2, 3] rfl)
  refine hx_aload_n C0 dX4_out_0 rfl (lv_at hl 0 rfl) ?_
  refine lv_iload_n hx hb dX4_out_1 rfl (lv_at hl 1 rfl) ?_
  refine hx_Si C0 hU hH (As := [.int x1]) (wk_X4_isEnd l h) (va_cwS 1 hts (lw_S q1175 q1176 q71 q1177) rfl rfl rfl (by decide +kernel) ⟨Nat.le_of_ble_eq_true rfl, Nat.le_of_ble_eq_true rfl⟩) rfl hl.1 rfl (Nat.le_of_ble_eq_true rfl) dX4_out_2 ⟨Nat.le_of_ble_eq_true rfl, Nat.le_of_ble_eq_true rfl⟩ (fun i_1 w H locs hH h => ?_)
  refine lv_if_eq hx hb dX4_out_5 (tgt := 26) (by decide) (fun c_2 => ?_) (fun c_2 => ?_)
  · have h := h.1 c_2
    refine W.widen (k := 0) (n := 0) (Nat.le_of_ble_eq_true rfl) (Nat.le_of_ble_eq_true rfl) ?_
    exact b26 _ _ _ _ _ _ h _ _ _ hH (lv_sub hl [0, 1, 2, 3] rfl)
  · have h := h.2 c_2
    refine lv_iload_n hx hb dX4_out_8 rfl (lv_at hl 2 rfl) ?_
    refine lv_i2l hx hb dX4_out_9 rfl ?_
    refine lv_lconst (v := 0) hx hb dX4_out_10 (by decide) ?_
    refine hx_aload_n C0 dX4_out_11 rfl (lv_at hl 0 rfl) ?_
    refine hx_gR C0 hU hH (ci := 3) rfl in_X4 6 (by decide) q1077 (fun _ h9 => h9) h dX4_out_12 (fun r_3 h => ?_)
    refine lv_iload_n hx hb dX4_out_15 rfl (lv_at hl 1 rfl) ?_
    obtain ⟨b_4, rfl, h9⟩ := h
    have h := h9
    clear h9
    refine hx_aI C0 hU hH h dX4_out_16 (fun i_5 h => ?_)
    refine lv_iconst (v := 1) hx hb dX4_out_17 (by decide) ?_
    refine lv_isub hx hb dX4_out_18 ?_
    refine lv_i2l hx hb dX4_out_19 rfl ?_
    refine hx_Si C0 hU hH (As := [.long (x2.toInt64), .long (0 : Int64), .long (Int32.toInt64 (i_5 - (1 : Int32)))]) (wk_X4_isBetween l h) (va_cwS 3 hts (lw_S q1162 q1163 q71 q1164) rfl rfl rfl (by decide +kernel) ⟨Nat.le_of_ble_eq_true rfl, Nat.le_of_ble_eq_true rfl⟩) rfl hl.1 rfl (Nat.le_of_ble_eq_true rfl) dX4_out_20 ⟨Nat.le_of_ble_eq_true rfl, Nat.le_of_ble_eq_true rfl⟩ (fun i_6 w H locs hH h => ?_)
    refine lv_if_ne hx hb dX4_out_23 (tgt := 30) (by decide) (fun c_7 => ?_) (fun c_7 => ?_)
    · have h := h.2 c_7
      refine lv_iload_n hx hb dX4_out_30 rfl (lv_at hl 3 rfl) ?_
      refine lv_i2l hx hb dX4_out_31 rfl ?_
      refine lv_lconst (v := 0) hx hb dX4_out_32 (by decide) ?_
      refine lv_ldc2 (v := 3) hx hb C0.2.2.2.1 (hts _ q1438) dX4_out_33 ?_
      refine hx_Si C0 hU hH (As := [.long (x3.toInt64), .long (0 : Int64), .long (3 : Int64)]) (wk_X4_isBetween l h) (va_cwS 3 hts (lw_S q1162 q1163 q71 q1164) rfl rfl rfl (by decide +kernel) ⟨Nat.le_of_ble_eq_true rfl, Nat.le_of_ble_eq_true rfl⟩) rfl hl.1 rfl (Nat.le_of_ble_eq_true rfl) dX4_out_36 ⟨Nat.le_of_ble_eq_true rfl, Nat.le_of_ble_eq_true rfl⟩ (fun i_8 w H locs hH h => ?_)
      refine lv_if_ne hx hb dX4_out_39 (tgt := 46) (by decide) (fun c_9 => ?_) (fun c_9 => ?_)
      · have h := h.2 c_9
        refine lv_iconst (v := 0) hx hb dX4_out_46 (by decide) ?_
        refine W.widen (k := 0) (n := 0) (Nat.le_of_ble_eq_true rfl) (Nat.le_of_ble_eq_true rfl) ?_
        exact b47 _ _ _ _ _ _ _ h _ _ _ hH (lv_sub hl [0, 1, 2, 3] rfl)
      · have h := h.1 c_9
        refine lv_iconst (v := 2) hx hb dX4_out_42 (by decide) ?_
        refine lv_goto hx hb dX4_out_43 (tgt := 47) (by decide) ?_
        refine W.widen (k := 0) (n := 0) (Nat.le_of_ble_eq_true rfl) (Nat.le_of_ble_eq_true rfl) ?_
        exact b47 _ _ _ _ _ _ _ h _ _ _ hH (lv_sub hl [0, 1, 2, 3] rfl)
    · have h := h.1 c_7
      refine W.widen (k := 0) (n := 0) (Nat.le_of_ble_eq_true rfl) (Nat.le_of_ble_eq_true rfl) ?_
      exact b26 _ _ _ _ _ _ h _ _ _ hH (lv_sub hl [0, 1, 2, 3] rfl)
def wp_X4_drops_b20 (K : Hp → Int32 → Prop)  (w : Hp) (a0 : Nat) (x1 : Int32) (t0 : Int32) (at1 : Nat) : Prop :=
  isO w at1 3 <| wp_X4_isWrong w at1 t0 fun w i_1 => br (i_1 = 0) (gR w a0 3 7 fun r_3 => dR r_3 fun b_4 => aI w b_4 (x1 + (7 : Int32)) fun i_5 => K w i_5) (K w (0 : Int32))
def wp_X4_drops (w : Hp) (a0 : Nat) (x1 : Int32) (K : Hp → Int32 → Prop) : Prop :=
  wp_X4_isBetween w (x1.toInt64) (-7 : Int64) (3 : Int64) fun w i_1 => br (i_1 = 0) (wp_X4_drops_b20 K w a0 x1 (1 : Int32) a0) (wp_X4_drops_b20 K w a0 x1 (0 : Int32) a0)
abbrev rm_X4_drops : Room := { frames := 1, cells := 0, slots := 0, locals := 25 }
abbrev ws9_X4_drops : List Cond := ws_ yX4_drops cX4_drops 2 (Option.some Jvm.ClassFile.FieldType.int)
abbrev Q9_X4_drops (below : List Frame) (args : Array Value) (s : State) (G : hG) (K : Hp → Int32 → Prop) : State → Prop := MQ below (hx_Qi G K) args s 0 0 (hx_A G)
set_option maxHeartbeats 4000000 in
set_option maxRecDepth 100000 in
theorem wk_X4_drops (l : Launch) {G : hG} {w : Hp} {a0 : Nat} {x1 : Int32} {K : Hp → Int32 → Prop} (h : wp_X4_drops w a0 x1 K) : hx_Mi l yX4_drops (ws9_X4_drops) rm_X4_drops G w [.ref a0, .int x1] K 0 0 := by
  refine Met.ofW (cc := cX4_drops) (maxL := 2) (ret := (Option.some Jvm.ClassFile.FieldType.int)) (by decide +kernel) rfl ?_
  intro p e s m args below meth c s₁ B hml hv
  refine hx_in (own := RX4) (av := [.ref a0, .int x1]) (vl := [(0, va_rf (some a0)), (1, .int x1)]) rfl rfl (Nat.le_of_ble_eq_true rfl) rfl B hml hv ?_
  intro C0 hU hH hr hlocks hin ls hl
  have hx := C0.1
  have hb := C0.2.1
  have hts := C0.2.2.2.2
  have b20 : ∀ (w : Hp) (a0 : Nat) (x1 : Int32) (t0 : Int32) (at1 : Nat), wp_X4_drops_b20 K  w a0 x1 t0 at1 → ∀ (H : Heap) (locs : List Loc) (ls : Array Slot), hx_H G w s H locs → lv_has ls 2 [(0, va_rf (some a0)), (1, .int x1)] → W p l e (headSpec (ws9_X4_drops) rm_X4_drops).room s m args below meth c H locs (0) (0) (Q9_X4_drops below args s G K) (F0 m 20 ls [.int t0, va_rf (some at1)]) := by
    intro w a0 x1 t0 at1 h H locs ls hH hl
    obtain ⟨ho, h⟩ := h
    refine hx_Vi C0 hU hH (As := [.int t0]) (wk_X4_isWrong l h) (cwV 1 hts (lw_V q1166 q1168 qs34 q71 q1169) rfl rfl rfl (by decide +kernel) ⟨Nat.le_of_ble_eq_true rfl, Nat.le_of_ble_eq_true rfl⟩) (hx_recv hU hH (ci := 3) rfl ho) rfl hl.1 rfl (Nat.le_of_ble_eq_true rfl) dX4_drops_20 ⟨Nat.le_of_ble_eq_true rfl, Nat.le_of_ble_eq_true rfl⟩ (fun i_1 w H locs hH h => ?_)
    refine lv_if_eq hx hb dX4_drops_23 (tgt := 28) (by decide) (fun c_2 => ?_) (fun c_2 => ?_)
    · have h := h.1 c_2
      refine hx_aload_n C0 dX4_drops_28 rfl (lv_at hl 0 rfl) ?_
      refine hx_gR C0 hU hH (ci := 3) rfl in_X4 7 (by decide) q1078 (fun _ h9 => h9) h dX4_drops_29 (fun r_3 h => ?_)
      refine lv_iload_n hx hb dX4_drops_32 rfl (lv_at hl 1 rfl) ?_
      refine lv_bipush (v := 7) hx hb dX4_drops_33 (by decide) ?_
      refine lv_iadd hx hb dX4_drops_35 ?_
      obtain ⟨b_4, rfl, h9⟩ := h
      have h := h9
      clear h9
      refine hx_aI C0 hU hH h dX4_drops_36 (fun i_5 h => ?_)
      exact hx_reti C0 hH hr hlocks h (Nat.le_of_ble_eq_true rfl) (Nat.le_of_ble_eq_true rfl) dX4_drops_37
    · have h := h.2 c_2
      refine lv_iconst (v := 0) hx hb dX4_drops_26 (by decide) ?_
      exact hx_reti C0 hH hr hlocks h (Nat.le_of_ble_eq_true rfl) (Nat.le_of_ble_eq_true rfl) dX4_drops_27
  refine hx_aload_n C0 dX4_drops_0 rfl (lv_at hl 0 rfl) ?_
  refine lv_iload_n hx hb dX4_drops_1 rfl (lv_at hl 1 rfl) ?_
  refine lv_i2l hx hb dX4_drops_2 rfl ?_
  refine lv_ldc2 (v := -7) hx hb C0.2.2.2.1 (hts _ q1443) dX4_drops_3 ?_
  refine lv_ldc2 (v := 3) hx hb C0.2.2.2.1 (hts _ q1438) dX4_drops_6 ?_
  refine hx_Si C0 hU hH (As := [.long (x1.toInt64), .long (-7 : Int64), .long (3 : Int64)]) (wk_X4_isBetween l h) (va_cwS 3 hts (lw_S q1162 q1163 q71 q1164) rfl rfl rfl (by decide +kernel) ⟨Nat.le_of_ble_eq_true rfl, Nat.le_of_ble_eq_true rfl⟩) rfl hl.1 rfl (Nat.le_of_ble_eq_true rfl) dX4_drops_9 ⟨Nat.le_of_ble_eq_true rfl, Nat.le_of_ble_eq_true rfl⟩ (fun i_1 w H locs hH h => ?_)
  refine lv_if_eq hx hb dX4_drops_12 (tgt := 19) (by decide) (fun c_2 => ?_) (fun c_2 => ?_)
  · have h := h.1 c_2
    refine lv_iconst (v := 1) hx hb dX4_drops_19 (by decide) ?_
    refine W.widen (k := 0) (n := 0) (Nat.le_of_ble_eq_true rfl) (Nat.le_of_ble_eq_true rfl) ?_
    exact b20 _ _ _ _ _ h _ _ _ hH (lv_sub hl [0, 1] rfl)
  · have h := h.2 c_2
    refine lv_iconst (v := 0) hx hb dX4_drops_15 (by decide) ?_
    refine lv_goto hx hb dX4_drops_16 (tgt := 20) (by decide) ?_
    refine W.widen (k := 0) (n := 0) (Nat.le_of_ble_eq_true rfl) (Nat.le_of_ble_eq_true rfl) ?_
    exact b20 _ _ _ _ _ h _ _ _ hH (lv_sub hl [0, 1] rfl)
def wp_X4_publicOf_b18 (K : Hp → Int32 → Prop)  (w : Hp) (x1 : Int32) (t0 : Int32) (at1 : Nat) : Prop :=
  isO w at1 3 <| wp_X4_isWrong w at1 t0 fun w i_1 => br (i_1 = 0) (wp_X4_open w x1 fun w i_3 => K w i_3) (K w (0 : Int32))
def wp_X4_publicOf (w : Hp) (a0 : Nat) (x1 : Int32) (K : Hp → Int32 → Prop) : Prop :=
  wp_X4_isBetween w (x1.toInt64) (0 : Int64) (1000000 : Int64) fun w i_1 => br (i_1 = 0) (wp_X4_publicOf_b18 K w x1 (1 : Int32) a0) (wp_X4_publicOf_b18 K w x1 (0 : Int32) a0)
abbrev rm_X4_publicOf : Room := { frames := 2, cells := 0, slots := 0, locals := 46 }
abbrev ws9_X4_publicOf : List Cond := ws_ yX4_publicOf cX4_publicOf 2 (Option.some Jvm.ClassFile.FieldType.int)
abbrev Q9_X4_publicOf (below : List Frame) (args : Array Value) (s : State) (G : hG) (K : Hp → Int32 → Prop) : State → Prop := MQ below (hx_Qi G K) args s 0 0 (hx_A G)
set_option maxHeartbeats 4000000 in
set_option maxRecDepth 100000 in
theorem wk_X4_publicOf (l : Launch) {G : hG} {w : Hp} {a0 : Nat} {x1 : Int32} {K : Hp → Int32 → Prop} (h : wp_X4_publicOf w a0 x1 K) : hx_Mi l yX4_publicOf (ws9_X4_publicOf) rm_X4_publicOf G w [.ref a0, .int x1] K 0 0 := by
  refine Met.ofW (cc := cX4_publicOf) (maxL := 2) (ret := (Option.some Jvm.ClassFile.FieldType.int)) (by decide +kernel) rfl ?_
  intro p e s m args below meth c s₁ B hml hv
  refine hx_in (own := RX4) (av := [.ref a0, .int x1]) (vl := [(0, va_rf (some a0)), (1, .int x1)]) rfl rfl (Nat.le_of_ble_eq_true rfl) rfl B hml hv ?_
  intro C0 hU hH hr hlocks hin ls hl
  have hx := C0.1
  have hb := C0.2.1
  have hts := C0.2.2.2.2
  have b18 : ∀ (w : Hp) (x1 : Int32) (t0 : Int32) (at1 : Nat), wp_X4_publicOf_b18 K  w x1 t0 at1 → ∀ (H : Heap) (locs : List Loc) (ls : Array Slot), hx_H G w s H locs → lv_has ls 2 [(1, .int x1)] → W p l e (headSpec (ws9_X4_publicOf) rm_X4_publicOf).room s m args below meth c H locs (0) (0) (Q9_X4_publicOf below args s G K) (F0 m 18 ls [.int t0, va_rf (some at1)]) := by
    intro w x1 t0 at1 h H locs ls hH hl
    obtain ⟨ho, h⟩ := h
    refine hx_Vi C0 hU hH (As := [.int t0]) (wk_X4_isWrong l h) (cwV 1 hts (lw_V q1166 q1168 qs34 q71 q1169) rfl rfl rfl (by decide +kernel) ⟨Nat.le_of_ble_eq_true rfl, Nat.le_of_ble_eq_true rfl⟩) (hx_recv hU hH (ci := 3) rfl ho) rfl hl.1 rfl (Nat.le_of_ble_eq_true rfl) dX4_publicOf_18 ⟨Nat.le_of_ble_eq_true rfl, Nat.le_of_ble_eq_true rfl⟩ (fun i_1 w H locs hH h => ?_)
    refine lv_if_eq hx hb dX4_publicOf_21 (tgt := 26) (by decide) (fun c_2 => ?_) (fun c_2 => ?_)
    · have h := h.1 c_2
      refine lv_iload_n hx hb dX4_publicOf_26 rfl (lv_at hl 0 rfl) ?_
      refine hx_Si C0 hU hH (As := [.int x1]) (wk_X4_open l h) (va_cwS 1 hts (lw_S q1263 q1264 q71 q1265) rfl rfl rfl (by decide +kernel) ⟨Nat.le_of_ble_eq_true rfl, Nat.le_of_ble_eq_true rfl⟩) rfl hl.1 rfl (Nat.le_of_ble_eq_true rfl) dX4_publicOf_27 ⟨Nat.le_of_ble_eq_true rfl, Nat.le_of_ble_eq_true rfl⟩ (fun i_3 w H locs hH h => ?_)
      exact hx_reti C0 hH hr hlocks h (Nat.le_of_ble_eq_true rfl) (Nat.le_of_ble_eq_true rfl) dX4_publicOf_30
    · have h := h.2 c_2
      refine lv_iconst (v := 0) hx hb dX4_publicOf_24 (by decide) ?_
      exact hx_reti C0 hH hr hlocks h (Nat.le_of_ble_eq_true rfl) (Nat.le_of_ble_eq_true rfl) dX4_publicOf_25
  refine hx_aload_n C0 dX4_publicOf_0 rfl (lv_at hl 0 rfl) ?_
  refine lv_iload_n hx hb dX4_publicOf_1 rfl (lv_at hl 1 rfl) ?_
  refine lv_i2l hx hb dX4_publicOf_2 rfl ?_
  refine lv_lconst (v := 0) hx hb dX4_publicOf_3 (by decide) ?_
  refine lv_ldc2 (v := 1000000) hx hb C0.2.2.2.1 (hts _ q1448) dX4_publicOf_4 ?_
  refine hx_Si C0 hU hH (As := [.long (x1.toInt64), .long (0 : Int64), .long (1000000 : Int64)]) (wk_X4_isBetween l h) (va_cwS 3 hts (lw_S q1162 q1163 q71 q1164) rfl rfl rfl (by decide +kernel) ⟨Nat.le_of_ble_eq_true rfl, Nat.le_of_ble_eq_true rfl⟩) rfl hl.1 rfl (Nat.le_of_ble_eq_true rfl) dX4_publicOf_7 ⟨Nat.le_of_ble_eq_true rfl, Nat.le_of_ble_eq_true rfl⟩ (fun i_1 w H locs hH h => ?_)
  refine lv_if_eq hx hb dX4_publicOf_10 (tgt := 17) (by decide) (fun c_2 => ?_) (fun c_2 => ?_)
  · have h := h.1 c_2
    refine lv_iconst (v := 1) hx hb dX4_publicOf_17 (by decide) ?_
    refine W.widen (k := 0) (n := 0) (Nat.le_of_ble_eq_true rfl) (Nat.le_of_ble_eq_true rfl) ?_
    exact b18 _ _ _ _ h _ _ _ hH (lv_sub hl [1] rfl)
  · have h := h.2 c_2
    refine lv_iconst (v := 0) hx hb dX4_publicOf_13 (by decide) ?_
    refine lv_goto hx hb dX4_publicOf_14 (tgt := 18) (by decide) ?_
    refine W.widen (k := 0) (n := 0) (Nat.le_of_ble_eq_true rfl) (Nat.le_of_ble_eq_true rfl) ?_
    exact b18 _ _ _ _ h _ _ _ hH (lv_sub hl [1] rfl)
def wp_X4_shared_b30 (K : Hp → Int32 → Prop)  (w : Hp) (x1 : Int32) (x2 : Int32) (t0 : Int32) (at1 : Nat) : Prop :=
  isO w at1 3 <| wp_X4_isWrong w at1 t0 fun w i_1 => br (i_1 = 0) (wp_X4_both w x1 x2 fun w i_3 => K w i_3) (K w (0 : Int32))
def wp_X4_shared_b29 (K : Hp → Int32 → Prop)  (w : Hp) (x1 : Int32) (x2 : Int32) (at0 : Nat) : Prop :=
  wp_X4_shared_b30 K w x1 x2 (1 : Int32) at0
def wp_X4_shared (w : Hp) (a0 : Nat) (x1 : Int32) (x2 : Int32) (K : Hp → Int32 → Prop) : Prop :=
  wp_X4_isBetween w (x1.toInt64) (0 : Int64) (1000000 : Int64) fun w i_1 => br (i_1 = 0) (wp_X4_shared_b29 K w x1 x2 a0) (wp_X4_isBetween w (x2.toInt64) (1 : Int64) (2038 : Int64) fun w i_3 => br (i_3 = 0) (wp_X4_shared_b29 K w x1 x2 a0) (wp_X4_shared_b30 K w x1 x2 (0 : Int32) a0))
abbrev rm_X4_shared : Room := { frames := 2, cells := 0, slots := 0, locals := 47 }
abbrev ws9_X4_shared : List Cond := ws_ yX4_shared cX4_shared 3 (Option.some Jvm.ClassFile.FieldType.int)
abbrev Q9_X4_shared (below : List Frame) (args : Array Value) (s : State) (G : hG) (K : Hp → Int32 → Prop) : State → Prop := MQ below (hx_Qi G K) args s 0 0 (hx_A G)
set_option maxHeartbeats 4000000 in
set_option maxRecDepth 100000 in
theorem wk_X4_shared (l : Launch) {G : hG} {w : Hp} {a0 : Nat} {x1 : Int32} {x2 : Int32} {K : Hp → Int32 → Prop} (h : wp_X4_shared w a0 x1 x2 K) : hx_Mi l yX4_shared (ws9_X4_shared) rm_X4_shared G w [.ref a0, .int x1, .int x2] K 0 0 := by
  refine Met.ofW (cc := cX4_shared) (maxL := 3) (ret := (Option.some Jvm.ClassFile.FieldType.int)) (by decide +kernel) rfl ?_
  intro p e s m args below meth c s₁ B hml hv
  refine hx_in (own := RX4) (av := [.ref a0, .int x1, .int x2]) (vl := [(0, va_rf (some a0)), (1, .int x1), (2, .int x2)]) rfl rfl (Nat.le_of_ble_eq_true rfl) rfl B hml hv ?_
  intro C0 hU hH hr hlocks hin ls hl
  have hx := C0.1
  have hb := C0.2.1
  have hts := C0.2.2.2.2
  have b30 : ∀ (w : Hp) (x1 : Int32) (x2 : Int32) (t0 : Int32) (at1 : Nat), wp_X4_shared_b30 K  w x1 x2 t0 at1 → ∀ (H : Heap) (locs : List Loc) (ls : Array Slot), hx_H G w s H locs → lv_has ls 3 [(1, .int x1), (2, .int x2)] → W p l e (headSpec (ws9_X4_shared) rm_X4_shared).room s m args below meth c H locs (0) (0) (Q9_X4_shared below args s G K) (F0 m 30 ls [.int t0, va_rf (some at1)]) := by
    intro w x1 x2 t0 at1 h H locs ls hH hl
    obtain ⟨ho, h⟩ := h
    refine hx_Vi C0 hU hH (As := [.int t0]) (wk_X4_isWrong l h) (cwV 1 hts (lw_V q1166 q1168 qs34 q71 q1169) rfl rfl rfl (by decide +kernel) ⟨Nat.le_of_ble_eq_true rfl, Nat.le_of_ble_eq_true rfl⟩) (hx_recv hU hH (ci := 3) rfl ho) rfl hl.1 rfl (Nat.le_of_ble_eq_true rfl) dX4_shared_30 ⟨Nat.le_of_ble_eq_true rfl, Nat.le_of_ble_eq_true rfl⟩ (fun i_1 w H locs hH h => ?_)
    refine lv_if_eq hx hb dX4_shared_33 (tgt := 38) (by decide) (fun c_2 => ?_) (fun c_2 => ?_)
    · have h := h.1 c_2
      refine lv_iload_n hx hb dX4_shared_38 rfl (lv_at hl 0 rfl) ?_
      refine lv_iload_n hx hb dX4_shared_39 rfl (lv_at hl 1 rfl) ?_
      refine hx_Si C0 hU hH (As := [.int x1, .int x2]) (wk_X4_both l h) (va_cwS 2 hts (lw_S q1270 q1271 q71 q1272) rfl rfl rfl (by decide +kernel) ⟨Nat.le_of_ble_eq_true rfl, Nat.le_of_ble_eq_true rfl⟩) rfl hl.1 rfl (Nat.le_of_ble_eq_true rfl) dX4_shared_40 ⟨Nat.le_of_ble_eq_true rfl, Nat.le_of_ble_eq_true rfl⟩ (fun i_3 w H locs hH h => ?_)
      exact hx_reti C0 hH hr hlocks h (Nat.le_of_ble_eq_true rfl) (Nat.le_of_ble_eq_true rfl) dX4_shared_43
    · have h := h.2 c_2
      refine lv_iconst (v := 0) hx hb dX4_shared_36 (by decide) ?_
      exact hx_reti C0 hH hr hlocks h (Nat.le_of_ble_eq_true rfl) (Nat.le_of_ble_eq_true rfl) dX4_shared_37
  have b29 : ∀ (w : Hp) (x1 : Int32) (x2 : Int32) (at0 : Nat), wp_X4_shared_b29 K  w x1 x2 at0 → ∀ (H : Heap) (locs : List Loc) (ls : Array Slot), hx_H G w s H locs → lv_has ls 3 [(1, .int x1), (2, .int x2)] → W p l e (headSpec (ws9_X4_shared) rm_X4_shared).room s m args below meth c H locs (0) (0) (Q9_X4_shared below args s G K) (F0 m 29 ls [va_rf (some at0)]) := by
    intro w x1 x2 at0 h H locs ls hH hl
    refine lv_iconst (v := 1) hx hb dX4_shared_29 (by decide) ?_
    refine W.widen (k := 0) (n := 0) (Nat.le_of_ble_eq_true rfl) (Nat.le_of_ble_eq_true rfl) ?_
    exact b30 _ _ _ _ _ h _ _ _ hH (lv_sub hl [0, 1] rfl)
  refine hx_aload_n C0 dX4_shared_0 rfl (lv_at hl 0 rfl) ?_
  refine lv_iload_n hx hb dX4_shared_1 rfl (lv_at hl 1 rfl) ?_
  refine lv_i2l hx hb dX4_shared_2 rfl ?_
  refine lv_lconst (v := 0) hx hb dX4_shared_3 (by decide) ?_
  refine lv_ldc2 (v := 1000000) hx hb C0.2.2.2.1 (hts _ q1448) dX4_shared_4 ?_
  refine hx_Si C0 hU hH (As := [.long (x1.toInt64), .long (0 : Int64), .long (1000000 : Int64)]) (wk_X4_isBetween l h) (va_cwS 3 hts (lw_S q1162 q1163 q71 q1164) rfl rfl rfl (by decide +kernel) ⟨Nat.le_of_ble_eq_true rfl, Nat.le_of_ble_eq_true rfl⟩) rfl hl.1 rfl (Nat.le_of_ble_eq_true rfl) dX4_shared_7 ⟨Nat.le_of_ble_eq_true rfl, Nat.le_of_ble_eq_true rfl⟩ (fun i_1 w H locs hH h => ?_)
  refine lv_if_eq hx hb dX4_shared_10 (tgt := 29) (by decide) (fun c_2 => ?_) (fun c_2 => ?_)
  · have h := h.1 c_2
    refine W.widen (k := 0) (n := 0) (Nat.le_of_ble_eq_true rfl) (Nat.le_of_ble_eq_true rfl) ?_
    exact b29 _ _ _ _ h _ _ _ hH (lv_sub hl [1, 2] rfl)
  · have h := h.2 c_2
    refine lv_iload_n hx hb dX4_shared_13 rfl (lv_at hl 2 rfl) ?_
    refine lv_i2l hx hb dX4_shared_14 rfl ?_
    refine lv_lconst (v := 1) hx hb dX4_shared_15 (by decide) ?_
    refine lv_ldc2 (v := 2038) hx hb C0.2.2.2.1 (hts _ q1453) dX4_shared_16 ?_
    refine hx_Si C0 hU hH (As := [.long (x2.toInt64), .long (1 : Int64), .long (2038 : Int64)]) (wk_X4_isBetween l h) (va_cwS 3 hts (lw_S q1162 q1163 q71 q1164) rfl rfl rfl (by decide +kernel) ⟨Nat.le_of_ble_eq_true rfl, Nat.le_of_ble_eq_true rfl⟩) rfl hl.1 rfl (Nat.le_of_ble_eq_true rfl) dX4_shared_19 ⟨Nat.le_of_ble_eq_true rfl, Nat.le_of_ble_eq_true rfl⟩ (fun i_3 w H locs hH h => ?_)
    refine lv_if_eq hx hb dX4_shared_22 (tgt := 29) (by decide) (fun c_4 => ?_) (fun c_4 => ?_)
    · have h := h.1 c_4
      refine W.widen (k := 0) (n := 0) (Nat.le_of_ble_eq_true rfl) (Nat.le_of_ble_eq_true rfl) ?_
      exact b29 _ _ _ _ h _ _ _ hH (lv_sub hl [1, 2] rfl)
    · have h := h.2 c_4
      refine lv_iconst (v := 0) hx hb dX4_shared_25 (by decide) ?_
      refine lv_goto hx hb dX4_shared_26 (tgt := 30) (by decide) ?_
      refine W.widen (k := 0) (n := 0) (Nat.le_of_ble_eq_true rfl) (Nat.le_of_ble_eq_true rfl) ?_
      exact b30 _ _ _ _ _ h _ _ _ hH (lv_sub hl [1, 2] rfl)
def wp_X4_seal_b73 (K : Hp → Int32 → Prop)  (w : Hp) (x1 : Int32) (x2 : Int32) (x3 : Int32) (x4 : Int32) (t0 : Int32) (at1 : Nat) : Prop :=
  isO w at1 3 <| wp_X4_isWrong w at1 t0 fun w i_1 => br (i_1 = 0) (nI_ w (3 : Int32) 3 fun w b_3 => sI w b_3 (0 : Int32) x2 fun w => sI w b_3 (1 : Int32) x3 fun w => sI w b_3 (2 : Int32) x4 fun w => wp_X4_sealOf w x1 b_3 fun w i_4 => K w i_4) (K w (0 : Int32))
def wp_X4_seal_b60 (K : Hp → Int32 → Prop)  (w : Hp) (a0 : Nat) (x1 : Int32) (x2 : Int32) (x3 : Int32) (x4 : Int32) (t0 : Int32) : Prop :=
  br (t0 = 0) (wp_X4_seal_b73 K w x1 x2 x3 x4 (1 : Int32) a0) (wp_X4_seal_b73 K w x1 x2 x3 x4 (0 : Int32) a0)
def wp_X4_seal_b59 (K : Hp → Int32 → Prop)  (w : Hp) (a0 : Nat) (x1 : Int32) (x2 : Int32) (x3 : Int32) (x4 : Int32) : Prop :=
  wp_X4_seal_b60 K w a0 x1 x2 x3 x4 (0 : Int32)
def wp_X4_seal (w : Hp) (a0 : Nat) (x1 : Int32) (x2 : Int32) (x3 : Int32) (x4 : Int32) (K : Hp → Int32 → Prop) : Prop :=
  wp_X4_isBetween w (x1.toInt64) (1 : Int64) (65520 : Int64) fun w i_1 => br (i_1 = 0) (wp_X4_seal_b59 K w a0 x1 x2 x3 x4) (wp_X4_isBetween w (x2.toInt64) (-1 : Int64) (9999 : Int64) fun w i_3 => br (i_3 = 0) (wp_X4_seal_b59 K w a0 x1 x2 x3 x4) (wp_X4_isBetween w (x3.toInt64) (-1 : Int64) (9999 : Int64) fun w i_5 => br (i_5 = 0) (wp_X4_seal_b59 K w a0 x1 x2 x3 x4) (wp_X4_isBetween w (x4.toInt64) (-1 : Int64) (9999 : Int64) fun w i_7 => br (i_7 = 0) (wp_X4_seal_b59 K w a0 x1 x2 x3 x4) (wp_X4_seal_b60 K w a0 x1 x2 x3 x4 (1 : Int32)))))
abbrev rm_X4_seal : Room := { frames := 2, cells := 1, slots := 3, locals := 50 }
abbrev ws9_X4_seal : List Cond := ws_ yX4_seal cX4_seal 6 (Option.some Jvm.ClassFile.FieldType.int)
abbrev Q9_X4_seal (below : List Frame) (args : Array Value) (s : State) (G : hG) (K : Hp → Int32 → Prop) : State → Prop := MQ below (hx_Qi G K) args s 1 3 (hx_A G)
set_option maxHeartbeats 4000000 in
set_option maxRecDepth 100000 in
theorem wk_X4_seal (l : Launch) {G : hG} {w : Hp} {a0 : Nat} {x1 : Int32} {x2 : Int32} {x3 : Int32} {x4 : Int32} {K : Hp → Int32 → Prop} (h : wp_X4_seal w a0 x1 x2 x3 x4 K) : hx_Mi l yX4_seal (ws9_X4_seal) rm_X4_seal G w [.ref a0, .int x1, .int x2, .int x3, .int x4] K 1 3 := by
  refine Met.ofW (cc := cX4_seal) (maxL := 6) (ret := (Option.some Jvm.ClassFile.FieldType.int)) (by decide +kernel) rfl ?_
  intro p e s m args below meth c s₁ B hml hv
  refine hx_in (own := RX4) (av := [.ref a0, .int x1, .int x2, .int x3, .int x4]) (vl := [(0, va_rf (some a0)), (1, .int x1), (2, .int x2), (3, .int x3), (4, .int x4)]) rfl rfl (Nat.le_of_ble_eq_true rfl) rfl B hml hv ?_
  intro C0 hU hH hr hlocks hin ls hl
  have hx := C0.1
  have hb := C0.2.1
  have hts := C0.2.2.2.2
  have b73 : ∀ (w : Hp) (x1 : Int32) (x2 : Int32) (x3 : Int32) (x4 : Int32) (t0 : Int32) (at1 : Nat), wp_X4_seal_b73 K  w x1 x2 x3 x4 t0 at1 → ∀ (H : Heap) (locs : List Loc) (ls : Array Slot), hx_H G w s H locs → lv_has ls 6 [(1, .int x1), (2, .int x2), (3, .int x3), (4, .int x4)] → W p l e (headSpec (ws9_X4_seal) rm_X4_seal).room s m args below meth c H locs (0) (0) (Q9_X4_seal below args s G K) (F0 m 73 ls [.int t0, va_rf (some at1)]) := by
    intro w x1 x2 x3 x4 t0 at1 h H locs ls hH hl
    obtain ⟨ho, h⟩ := h
    refine hx_Vi C0 hU hH (As := [.int t0]) (wk_X4_isWrong l h) (cwV 1 hts (lw_V q1166 q1168 qs34 q71 q1169) rfl rfl rfl (by decide +kernel) ⟨Nat.le_of_ble_eq_true rfl, Nat.le_of_ble_eq_true rfl⟩) (hx_recv hU hH (ci := 3) rfl ho) rfl hl.1 rfl (Nat.le_of_ble_eq_true rfl) dX4_seal_73 ⟨Nat.le_of_ble_eq_true rfl, Nat.le_of_ble_eq_true rfl⟩ (fun i_1 w H locs hH h => ?_)
    refine lv_if_eq hx hb dX4_seal_76 (tgt := 81) (by decide) (fun c_2 => ?_) (fun c_2 => ?_)
    · have h := h.1 c_2
      refine lv_iload_n hx hb dX4_seal_81 rfl (lv_at hl 0 rfl) ?_
      refine lv_iconst (v := 3) hx hb dX4_seal_82 (by decide) ?_
      refine hx_nI C0 hU hH (Nat.le_of_ble_eq_true rfl) (Nat.le_of_ble_eq_true rfl) (Nat.le_of_ble_eq_true rfl) h dX4_seal_83 (fun b_3 w H locs hH h => ?_)
      refine lv_dup hx hb dX4_seal_85 rfl ?_
      refine lv_iconst (v := 0) hx hb dX4_seal_86 (by decide) ?_
      refine lv_iload_n hx hb dX4_seal_87 rfl (lv_at hl 1 rfl) ?_
      refine hx_sI C0 hU hH h dX4_seal_88 (fun w H locs hH h => ?_)
      refine lv_dup hx hb dX4_seal_89 rfl ?_
      refine lv_iconst (v := 1) hx hb dX4_seal_90 (by decide) ?_
      refine lv_iload_n hx hb dX4_seal_91 rfl (lv_at hl 2 rfl) ?_
      refine hx_sI C0 hU hH h dX4_seal_92 (fun w H locs hH h => ?_)
      refine lv_dup hx hb dX4_seal_93 rfl ?_
      refine lv_iconst (v := 2) hx hb dX4_seal_94 (by decide) ?_
      refine lv_iload hx hb dX4_seal_95 (lv_at hl 3 rfl) ?_
      refine hx_sI C0 hU hH h dX4_seal_97 (fun w H locs hH h => ?_)
      refine hx_Si C0 hU hH (As := [.int x1, va_rf (some b_3)]) (wk_X4_sealOf l h) (va_cwS 2 hts (lw_S q1228 q1229 q71 q1230) rfl rfl rfl (by decide +kernel) ⟨Nat.le_of_ble_eq_true rfl, Nat.le_of_ble_eq_true rfl⟩) rfl hl.1 rfl (Nat.le_of_ble_eq_true rfl) dX4_seal_98 ⟨Nat.le_of_ble_eq_true rfl, Nat.le_of_ble_eq_true rfl⟩ (fun i_4 w H locs hH h => ?_)
      exact hx_reti C0 hH hr hlocks h (Nat.le_of_ble_eq_true rfl) (Nat.le_of_ble_eq_true rfl) dX4_seal_101
    · have h := h.2 c_2
      refine lv_iconst (v := 0) hx hb dX4_seal_79 (by decide) ?_
      exact hx_reti C0 hH hr hlocks h (Nat.le_of_ble_eq_true rfl) (Nat.le_of_ble_eq_true rfl) dX4_seal_80
  have b60 : ∀ (w : Hp) (a0 : Nat) (x1 : Int32) (x2 : Int32) (x3 : Int32) (x4 : Int32) (t0 : Int32), wp_X4_seal_b60 K  w a0 x1 x2 x3 x4 t0 → ∀ (H : Heap) (locs : List Loc) (ls : Array Slot), hx_H G w s H locs → lv_has ls 6 [(0, va_rf (some a0)), (1, .int x1), (2, .int x2), (3, .int x3), (4, .int x4)] → W p l e (headSpec (ws9_X4_seal) rm_X4_seal).room s m args below meth c H locs (0) (0) (Q9_X4_seal below args s G K) (F0 m 60 ls [.int t0]) := by
    intro w a0 x1 x2 x3 x4 t0 h H locs ls hH hl
    refine lv_istore hx hb dX4_seal_60 hl (by decide) (lv' := [(5, .int t0), (0, va_rf (some a0)), (1, .int x1), (2, .int x2), (3, .int x3), (4, .int x4)]) rfl (fun ls hl => ?_)
    refine hx_aload_n C0 dX4_seal_62 rfl (lv_at hl 1 rfl) ?_
    refine lv_iload hx hb dX4_seal_63 (lv_at hl 0 rfl) ?_
    refine lv_if_eq hx hb dX4_seal_65 (tgt := 72) (by decide) (fun c_1 => ?_) (fun c_1 => ?_)
    · have h := h.1 c_1
      refine lv_iconst (v := 1) hx hb dX4_seal_72 (by decide) ?_
      refine W.widen (k := 0) (n := 0) (Nat.le_of_ble_eq_true rfl) (Nat.le_of_ble_eq_true rfl) ?_
      exact b73 _ _ _ _ _ _ _ h _ _ _ hH (lv_sub hl [2, 3, 4, 5] rfl)
    · have h := h.2 c_1
      refine lv_iconst (v := 0) hx hb dX4_seal_68 (by decide) ?_
      refine lv_goto hx hb dX4_seal_69 (tgt := 73) (by decide) ?_
      refine W.widen (k := 0) (n := 0) (Nat.le_of_ble_eq_true rfl) (Nat.le_of_ble_eq_true rfl) ?_
      exact b73 _ _ _ _ _ _ _ h _ _ _ hH (lv_sub hl [2, 3, 4, 5] rfl)
  have b59 : ∀ (w : Hp) (a0 : Nat) (x1 : Int32) (x2 : Int32) (x3 : Int32) (x4 : Int32), wp_X4_seal_b59 K  w a0 x1 x2 x3 x4 → ∀ (H : Heap) (locs : List Loc) (ls : Array Slot), hx_H G w s H locs → lv_has ls 6 [(0, va_rf (some a0)), (1, .int x1), (2, .int x2), (3, .int x3), (4, .int x4)] → W p l e (headSpec (ws9_X4_seal) rm_X4_seal).room s m args below meth c H locs (0) (0) (Q9_X4_seal below args s G K) (F0 m 59 ls []) := by
    intro w a0 x1 x2 x3 x4 h H locs ls hH hl
    refine lv_iconst (v := 0) hx hb dX4_seal_59 (by decide) ?_
    refine W.widen (k := 0) (n := 0) (Nat.le_of_ble_eq_true rfl) (Nat.le_of_ble_eq_true rfl) ?_
    exact b60 _ _ _ _ _ _ _ h _ _ _ hH (lv_sub hl [0, 1, 2, 3, 4] rfl)
  refine lv_iload_n hx hb dX4_seal_0 rfl (lv_at hl 1 rfl) ?_
  refine lv_i2l hx hb dX4_seal_1 rfl ?_
  refine lv_lconst (v := 1) hx hb dX4_seal_2 (by decide) ?_
  refine lv_ldc2 (v := 65520) hx hb C0.2.2.2.1 (hts _ q1458) dX4_seal_3 ?_
  refine hx_Si C0 hU hH (As := [.long (x1.toInt64), .long (1 : Int64), .long (65520 : Int64)]) (wk_X4_isBetween l h) (va_cwS 3 hts (lw_S q1162 q1163 q71 q1164) rfl rfl rfl (by decide +kernel) ⟨Nat.le_of_ble_eq_true rfl, Nat.le_of_ble_eq_true rfl⟩) rfl hl.1 rfl (Nat.le_of_ble_eq_true rfl) dX4_seal_6 ⟨Nat.le_of_ble_eq_true rfl, Nat.le_of_ble_eq_true rfl⟩ (fun i_1 w H locs hH h => ?_)
  refine lv_if_eq hx hb dX4_seal_9 (tgt := 59) (by decide) (fun c_2 => ?_) (fun c_2 => ?_)
  · have h := h.1 c_2
    refine W.widen (k := 0) (n := 0) (Nat.le_of_ble_eq_true rfl) (Nat.le_of_ble_eq_true rfl) ?_
    exact b59 _ _ _ _ _ _ h _ _ _ hH (lv_sub hl [0, 1, 2, 3, 4] rfl)
  · have h := h.2 c_2
    refine lv_iload_n hx hb dX4_seal_12 rfl (lv_at hl 2 rfl) ?_
    refine lv_i2l hx hb dX4_seal_13 rfl ?_
    refine lv_ldc2 (v := -1) hx hb C0.2.2.2.1 (hts _ q1459) dX4_seal_14 ?_
    refine lv_ldc2 (v := 9999) hx hb C0.2.2.2.1 (hts _ q1207) dX4_seal_17 ?_
    refine hx_Si C0 hU hH (As := [.long (x2.toInt64), .long (-1 : Int64), .long (9999 : Int64)]) (wk_X4_isBetween l h) (va_cwS 3 hts (lw_S q1162 q1163 q71 q1164) rfl rfl rfl (by decide +kernel) ⟨Nat.le_of_ble_eq_true rfl, Nat.le_of_ble_eq_true rfl⟩) rfl hl.1 rfl (Nat.le_of_ble_eq_true rfl) dX4_seal_20 ⟨Nat.le_of_ble_eq_true rfl, Nat.le_of_ble_eq_true rfl⟩ (fun i_3 w H locs hH h => ?_)
    refine lv_if_eq hx hb dX4_seal_23 (tgt := 59) (by decide) (fun c_4 => ?_) (fun c_4 => ?_)
    · have h := h.1 c_4
      refine W.widen (k := 0) (n := 0) (Nat.le_of_ble_eq_true rfl) (Nat.le_of_ble_eq_true rfl) ?_
      exact b59 _ _ _ _ _ _ h _ _ _ hH (lv_sub hl [0, 1, 2, 3, 4] rfl)
    · have h := h.2 c_4
      refine lv_iload_n hx hb dX4_seal_26 rfl (lv_at hl 3 rfl) ?_
      refine lv_i2l hx hb dX4_seal_27 rfl ?_
      refine lv_ldc2 (v := -1) hx hb C0.2.2.2.1 (hts _ q1459) dX4_seal_28 ?_
      refine lv_ldc2 (v := 9999) hx hb C0.2.2.2.1 (hts _ q1207) dX4_seal_31 ?_
      refine hx_Si C0 hU hH (As := [.long (x3.toInt64), .long (-1 : Int64), .long (9999 : Int64)]) (wk_X4_isBetween l h) (va_cwS 3 hts (lw_S q1162 q1163 q71 q1164) rfl rfl rfl (by decide +kernel) ⟨Nat.le_of_ble_eq_true rfl, Nat.le_of_ble_eq_true rfl⟩) rfl hl.1 rfl (Nat.le_of_ble_eq_true rfl) dX4_seal_34 ⟨Nat.le_of_ble_eq_true rfl, Nat.le_of_ble_eq_true rfl⟩ (fun i_5 w H locs hH h => ?_)
      refine lv_if_eq hx hb dX4_seal_37 (tgt := 59) (by decide) (fun c_6 => ?_) (fun c_6 => ?_)
      · have h := h.1 c_6
        refine W.widen (k := 0) (n := 0) (Nat.le_of_ble_eq_true rfl) (Nat.le_of_ble_eq_true rfl) ?_
        exact b59 _ _ _ _ _ _ h _ _ _ hH (lv_sub hl [0, 1, 2, 3, 4] rfl)
      · have h := h.2 c_6
        refine lv_iload hx hb dX4_seal_40 (lv_at hl 4 rfl) ?_
        refine lv_i2l hx hb dX4_seal_42 rfl ?_
        refine lv_ldc2 (v := -1) hx hb C0.2.2.2.1 (hts _ q1459) dX4_seal_43 ?_
        refine lv_ldc2 (v := 9999) hx hb C0.2.2.2.1 (hts _ q1207) dX4_seal_46 ?_
        refine hx_Si C0 hU hH (As := [.long (x4.toInt64), .long (-1 : Int64), .long (9999 : Int64)]) (wk_X4_isBetween l h) (va_cwS 3 hts (lw_S q1162 q1163 q71 q1164) rfl rfl rfl (by decide +kernel) ⟨Nat.le_of_ble_eq_true rfl, Nat.le_of_ble_eq_true rfl⟩) rfl hl.1 rfl (Nat.le_of_ble_eq_true rfl) dX4_seal_49 ⟨Nat.le_of_ble_eq_true rfl, Nat.le_of_ble_eq_true rfl⟩ (fun i_7 w H locs hH h => ?_)
        refine lv_if_eq hx hb dX4_seal_52 (tgt := 59) (by decide) (fun c_8 => ?_) (fun c_8 => ?_)
        · have h := h.1 c_8
          refine W.widen (k := 0) (n := 0) (Nat.le_of_ble_eq_true rfl) (Nat.le_of_ble_eq_true rfl) ?_
          exact b59 _ _ _ _ _ _ h _ _ _ hH (lv_sub hl [0, 1, 2, 3, 4] rfl)
        · have h := h.2 c_8
          refine lv_iconst (v := 1) hx hb dX4_seal_55 (by decide) ?_
          refine lv_goto hx hb dX4_seal_56 (tgt := 60) (by decide) ?_
          refine W.widen (k := 0) (n := 0) (Nat.le_of_ble_eq_true rfl) (Nat.le_of_ble_eq_true rfl) ?_
          exact b60 _ _ _ _ _ _ _ h _ _ _ hH (lv_sub hl [0, 1, 2, 3, 4] rfl)
def wp_X4_share (w : Hp) (a0 : Nat) (K : Hp → UInt32 → Prop) : Prop :=
  gI w a0 3 3 fun i_1 => br (i_1 = 0) (K w FP.fconst0) (gR w a0 3 7 fun r_3 => dR r_3 fun b_4 => aI w b_4 (8 : Int32) fun i_5 => gI w a0 3 3 fun i_6 => gd (vf_n32 (FP.fdiv (FP.i2f i_5) (FP.i2f i_6))) <| K w (FP.fdiv (FP.i2f i_5) (FP.i2f i_6)))
abbrev rm_X4_share : Room := { frames := 0, cells := 0, slots := 0, locals := 0 }
abbrev ws9_X4_share : List Cond := ws_ yX4_share cX4_share 1 (Option.some Jvm.ClassFile.FieldType.float)
abbrev Q9_X4_share (below : List Frame) (args : Array Value) (s : State) (G : hG) (K : Hp → UInt32 → Prop) : State → Prop := MQ below (hx_Qf G K) args s 0 0 (hx_A G)
set_option maxHeartbeats 4000000 in
set_option maxRecDepth 100000 in
theorem wk_X4_share (l : Launch) {G : hG} {w : Hp} {a0 : Nat} {K : Hp → UInt32 → Prop} (h : wp_X4_share w a0 K) : hx_Mf l yX4_share (ws9_X4_share) rm_X4_share G w [.ref a0] K 0 0 := by
  refine Met.ofW (cc := cX4_share) (maxL := 1) (ret := (Option.some Jvm.ClassFile.FieldType.float)) (by decide +kernel) rfl ?_
  intro p e s m args below meth c s₁ B hml hv
  refine hx_in (own := RX4) (av := [.ref a0]) (vl := [(0, va_rf (some a0))]) rfl rfl (Nat.le_of_ble_eq_true rfl) rfl B hml hv ?_
  intro C0 hU hH hr hlocks hin ls hl
  have hx := C0.1
  have hb := C0.2.1
  have hts := C0.2.2.2.2
  refine hx_aload_n C0 dX4_share_0 rfl (lv_at hl 0 rfl) ?_
  refine hx_gI C0 hU hH (ci := 3) rfl in_X4 3 (by decide) q1074 (fun _ h9 => h9) h dX4_share_1 (fun i_1 h => ?_)
  refine lv_if_ne hx hb dX4_share_4 (tgt := 11) (by decide) (fun c_2 => ?_) (fun c_2 => ?_)
  · have h := h.2 c_2
    refine hx_aload_n C0 dX4_share_11 rfl (lv_at hl 0 rfl) ?_
    refine hx_gR C0 hU hH (ci := 3) rfl in_X4 7 (by decide) q1078 (fun _ h9 => h9) h dX4_share_12 (fun r_3 h => ?_)
    refine lv_bipush (v := 8) hx hb dX4_share_15 (by decide) ?_
    obtain ⟨b_4, rfl, h9⟩ := h
    have h := h9
    clear h9
    refine hx_aI C0 hU hH h dX4_share_17 (fun i_5 h => ?_)
    refine lv_i2f hx hb dX4_share_18 ?_
    refine hx_aload_n C0 dX4_share_19 rfl (lv_at hl 0 rfl) ?_
    refine hx_gI C0 hU hH (ci := 3) rfl in_X4 3 (by decide) q1074 (fun _ h9 => h9) h dX4_share_20 (fun i_6 h => ?_)
    refine lv_i2f hx hb dX4_share_23 ?_
    obtain ⟨hg, h⟩ := h
    refine lv_fdiv hx hb dX4_share_24 hg ?_
    exact hx_retf C0 hH hr hlocks h (Nat.le_of_ble_eq_true rfl) (Nat.le_of_ble_eq_true rfl) dX4_share_25
  · have h := h.1 c_2
    refine lv_fconst0 hx hb dX4_share_7 ?_
    refine lv_goto hx hb dX4_share_8 (tgt := 25) (by decide) ?_
    exact hx_retf C0 hH hr hlocks h (Nat.le_of_ble_eq_true rfl) (Nat.le_of_ble_eq_true rfl) dX4_share_25
def wp_X4_meanAge_b58 (K : Hp → UInt64 → Prop) (bk7 : Hp → Nat → Int64 → Int64 → Int32 → Prop) (bk16 : Hp → Nat → Int64 → Int64 → Int32 → Int32 → Prop) (w : Hp) (a0 : Nat) (x1 : Int64) (x3 : Int64) (x5 : Int32) (x6 : Int32) : Prop :=
  nm (x6 + 1) fun i_1 => bk16 w a0 x1 x3 x5 i_1
def wp_X4_meanAge_s16 (K : Hp → UInt64 → Prop) (bk7 : Hp → Nat → Int64 → Int64 → Int32 → Prop) (bk16 : Hp → Nat → Int64 → Int64 → Int32 → Int32 → Prop) (w : Hp) (a0 : Nat) (x1 : Int64) (x3 : Int64) (x5 : Int32) (x6 : Int32) : Prop :=
  br ((3 : Int32) ≤ x6) (nm (x5 + 1) fun i_2 => bk7 w a0 x1 x3 i_2) (br (x6 = x5) (wp_X4_meanAge_b58 K bk7 bk16 w a0 x1 x3 x5 x6) (isO w a0 3 <| wp_X4_isThere w a0 x5 x6 (1 : Int32) fun w i_4 => br (i_4 = 0) (wp_X4_meanAge_b58 K bk7 bk16 w a0 x1 x3 x5 x6) (isO w a0 3 <| wp_X4_age w a0 x5 x6 (1 : Int32) fun w i_6 => nm (x1 + (i_6.toInt64)) fun l_7 => nm (x3 + (1 : Int64)) fun l_8 => wp_X4_meanAge_b58 K bk7 bk16 w a0 l_7 l_8 x5 x6)))
def wp_X4_meanAge_l16 (K : Hp → UInt64 → Prop) (bk7 : Hp → Nat → Int64 → Int64 → Int32 → Prop) : ((Hp × Nat × Int64 × Int64 × Int32 × Int32) → Prop) → (Hp × Nat × Int64 × Int64 × Int32 × Int32) → Prop := fun bk q => wp_X4_meanAge_s16 K bk7 (fun w a0 x1 x3 x5 x6 => bk (w, a0, x1, x3, x5, x6)) q.1 q.2.1 q.2.2.1 q.2.2.2.1 q.2.2.2.2.1 q.2.2.2.2.2
def wp_X4_meanAge_b16 (K : Hp → UInt64 → Prop) (bk7 : Hp → Nat → Int64 → Int64 → Int32 → Prop) (w : Hp) (a0 : Nat) (x1 : Int64) (x3 : Int64) (x5 : Int32) (x6 : Int32) : Prop := lp (wp_X4_meanAge_l16 K bk7) (w, a0, x1, x3, x5, x6)
def wp_X4_meanAge_s7 (K : Hp → UInt64 → Prop)  (bk7 : Hp → Nat → Int64 → Int64 → Int32 → Prop) (w : Hp) (a0 : Nat) (x1 : Int64) (x3 : Int64) (x5 : Int32) : Prop :=
  br ((3 : Int32) ≤ x5) (br ((lg_cmp x3 (0 : Int64)) = 0) (K w FP.dconst0) (gd (vf_n64 (FP.ddiv (FP.l2d x1) (FP.l2d x3))) <| K w (FP.ddiv (FP.l2d x1) (FP.l2d x3)))) (wp_X4_meanAge_b16 K bk7 w a0 x1 x3 x5 (0 : Int32))
def wp_X4_meanAge_l7 (K : Hp → UInt64 → Prop)  : ((Hp × Nat × Int64 × Int64 × Int32) → Prop) → (Hp × Nat × Int64 × Int64 × Int32) → Prop := fun bk q => wp_X4_meanAge_s7 K  (fun w a0 x1 x3 x5 => bk (w, a0, x1, x3, x5)) q.1 q.2.1 q.2.2.1 q.2.2.2.1 q.2.2.2.2
def wp_X4_meanAge_b7 (K : Hp → UInt64 → Prop)  (w : Hp) (a0 : Nat) (x1 : Int64) (x3 : Int64) (x5 : Int32) : Prop := lp (wp_X4_meanAge_l7 K ) (w, a0, x1, x3, x5)
def wp_X4_meanAge (w : Hp) (a0 : Nat) (K : Hp → UInt64 → Prop) : Prop :=
  wp_X4_meanAge_b7 K w a0 (0 : Int64) (0 : Int64) (0 : Int32)
abbrev rm_X4_meanAge : Room := { frames := 1, cells := 0, slots := 0, locals := 23 }
abbrev ws9_X4_meanAge : List Cond := ws_ yX4_meanAge cX4_meanAge 7 (Option.some Jvm.ClassFile.FieldType.double)
abbrev Q9_X4_meanAge (below : List Frame) (args : Array Value) (s : State) (G : hG) (K : Hp → UInt64 → Prop) : State → Prop := MQ below (hx_Qd G K) args s 0 0 (hx_A G)
set_option maxHeartbeats 4000000 in
set_option maxRecDepth 100000 in
theorem wk_X4_meanAge (l : Launch) {G : hG} {w : Hp} {a0 : Nat} {K : Hp → UInt64 → Prop} (h : wp_X4_meanAge w a0 K) : hx_Md l yX4_meanAge (ws9_X4_meanAge) rm_X4_meanAge G w [.ref a0] K 0 0 := by
  refine Met.ofW (cc := cX4_meanAge) (maxL := 7) (ret := (Option.some Jvm.ClassFile.FieldType.double)) (by decide +kernel) rfl ?_
  intro p e s m args below meth c s₁ B hml hv
  refine hx_in (own := RX4) (av := [.ref a0]) (vl := [(0, va_rf (some a0))]) rfl rfl (Nat.le_of_ble_eq_true rfl) rfl B hml hv ?_
  intro C0 hU hH hr hlocks hin ls hl
  have hx := C0.1
  have hb := C0.2.1
  have hts := C0.2.2.2.2
  have L7 : ∀ (n7 : Nat) (w : Hp) (a0 : Nat) (x1 : Int64) (x3 : Int64) (x5 : Int32), lpN (wp_X4_meanAge_l7 K ) n7 (w, a0, x1, x3, x5) → ∀ (H : Heap) (locs : List Loc) (ls : Array Slot), hx_H G w s H locs → lv_has ls 7 [(0, va_rf (some a0)), (1, .long x1), (3, .long x3), (5, .int x5)] → W p l e (headSpec (ws9_X4_meanAge) rm_X4_meanAge).room s m args below meth c H locs (0) (0) (Q9_X4_meanAge below args s G K) (F0 m 7 ls []) := by
    intro n7
    induction n7 with
    | zero => intro w a0 x1 x3 x5 h; exact h.elim
    | succ n7 ih7 =>
      intro w a0 x1 x3 x5 h H locs ls hH hl
      have h : wp_X4_meanAge_s7 K  (fun w a0 x1 x3 x5 => lpN (wp_X4_meanAge_l7 K ) n7 (w, a0, x1, x3, x5)) w a0 x1 x3 x5 := h
      have L16 : ∀ (n16 : Nat) (w : Hp) (a0 : Nat) (x1 : Int64) (x3 : Int64) (x5 : Int32) (x6 : Int32), lpN (wp_X4_meanAge_l16 K (fun w a0 x1 x3 x5 => lpN (wp_X4_meanAge_l7 K ) n7 (w, a0, x1, x3, x5))) n16 (w, a0, x1, x3, x5, x6) → ∀ (H : Heap) (locs : List Loc) (ls : Array Slot), hx_H G w s H locs → lv_has ls 7 [(0, va_rf (some a0)), (1, .long x1), (3, .long x3), (5, .int x5), (6, .int x6)] → W p l e (headSpec (ws9_X4_meanAge) rm_X4_meanAge).room s m args below meth c H locs (0) (0) (Q9_X4_meanAge below args s G K) (F0 m 16 ls []) := by
        intro n16
        induction n16 with
        | zero => intro w a0 x1 x3 x5 x6 h; exact h.elim
        | succ n16 ih16 =>
          intro w a0 x1 x3 x5 x6 h H locs ls hH hl
          have h : wp_X4_meanAge_s16 K (fun w a0 x1 x3 x5 => lpN (wp_X4_meanAge_l7 K ) n7 (w, a0, x1, x3, x5)) (fun w a0 x1 x3 x5 x6 => lpN (wp_X4_meanAge_l16 K (fun w a0 x1 x3 x5 => lpN (wp_X4_meanAge_l7 K ) n7 (w, a0, x1, x3, x5))) n16 (w, a0, x1, x3, x5, x6)) w a0 x1 x3 x5 x6 := h
          have b58 : ∀ (w : Hp) (a0 : Nat) (x1 : Int64) (x3 : Int64) (x5 : Int32) (x6 : Int32), wp_X4_meanAge_b58 K (fun w a0 x1 x3 x5 => lpN (wp_X4_meanAge_l7 K ) n7 (w, a0, x1, x3, x5)) (fun w a0 x1 x3 x5 x6 => lpN (wp_X4_meanAge_l16 K (fun w a0 x1 x3 x5 => lpN (wp_X4_meanAge_l7 K ) n7 (w, a0, x1, x3, x5))) n16 (w, a0, x1, x3, x5, x6)) w a0 x1 x3 x5 x6 → ∀ (H : Heap) (locs : List Loc) (ls : Array Slot), hx_H G w s H locs → lv_has ls 7 [(0, va_rf (some a0)), (1, .long x1), (3, .long x3), (5, .int x5), (6, .int x6)] → W p l e (headSpec (ws9_X4_meanAge) rm_X4_meanAge).room s m args below meth c H locs (0) (0) (Q9_X4_meanAge below args s G K) (F0 m 58 ls []) := by
            intro w a0 x1 x3 x5 x6 h H locs ls hH hl
            obtain ⟨i_1, ei_1⟩ : ∃ z, z = x6 + 1 := ⟨_, rfl⟩
            have h := h i_1 ei_1
            refine lv_iinc (k := 4) hx hb dX4_meanAge_58 hl rfl (v := i_1) (by rw [ei_1]; rfl) (by decide) (lv' := [(6, .int i_1), (0, va_rf (some a0)), (1, .long x1), (3, .long x3), (5, .int x5)]) rfl (fun ls hl => ?_)
            refine lv_goto hx hb dX4_meanAge_61 (tgt := 16) (by decide) ?_
            refine W.widen (k := 0) (n := 0) (Nat.le_of_ble_eq_true rfl) (Nat.le_of_ble_eq_true rfl) ?_
            exact ih16 _ _ _ _ _ _ h _ _ _ hH (lv_sub hl [1, 2, 3, 4, 0] rfl)
          refine lv_iload hx hb dX4_meanAge_16 (lv_at hl 4 rfl) ?_
          refine lv_iconst (v := 3) hx hb dX4_meanAge_18 (by decide) ?_
          refine lv_icmp_ge hx hb dX4_meanAge_19 (tgt := 64) (by decide) (fun c_1 => ?_) (fun c_1 => ?_)
          · have h := h.1 c_1
            obtain ⟨i_2, ei_2⟩ : ∃ z, z = x5 + 1 := ⟨_, rfl⟩
            have h := h i_2 ei_2
            refine lv_iinc (k := 3) hx hb dX4_meanAge_64 hl rfl (v := i_2) (by rw [ei_2]; rfl) (by decide) (lv' := [(5, .int i_2), (0, va_rf (some a0)), (1, .long x1), (3, .long x3), (6, .int x6)]) rfl (fun ls hl => ?_)
            refine lv_goto hx hb dX4_meanAge_67 (tgt := 7) (by decide) ?_
            refine W.widen (k := 0) (n := 0) (Nat.le_of_ble_eq_true rfl) (Nat.le_of_ble_eq_true rfl) ?_
            exact ih7 _ _ _ _ _ h _ _ _ hH (lv_sub hl [1, 2, 3, 0] rfl)
          · have h := h.2 c_1
            refine lv_iload hx hb dX4_meanAge_22 (lv_at hl 4 rfl) ?_
            refine lv_iload hx hb dX4_meanAge_24 (lv_at hl 3 rfl) ?_
            refine lv_icmp_eq hx hb dX4_meanAge_26 (tgt := 58) (by decide) (fun c_3 => ?_) (fun c_3 => ?_)
            · have h := h.1 c_3
              refine W.widen (k := 0) (n := 0) (Nat.le_of_ble_eq_true rfl) (Nat.le_of_ble_eq_true rfl) ?_
              exact b58 _ _ _ _ _ _ h _ _ _ hH (lv_sub hl [0, 1, 2, 3, 4] rfl)
            · have h := h.2 c_3
              refine hx_aload_n C0 dX4_meanAge_29 rfl (lv_at hl 0 rfl) ?_
              refine lv_iload hx hb dX4_meanAge_30 (lv_at hl 3 rfl) ?_
              refine lv_iload hx hb dX4_meanAge_32 (lv_at hl 4 rfl) ?_
              refine lv_iconst (v := 1) hx hb dX4_meanAge_34 (by decide) ?_
              obtain ⟨ho, h⟩ := h
              refine hx_Vi C0 hU hH (As := [.int x5, .int x6, .int (1 : Int32)]) (wk_X4_isThere l h) (cwV 3 hts (lw_V q1216 q1218 qs38 q71 q1219) rfl rfl rfl (by decide +kernel) ⟨Nat.le_of_ble_eq_true rfl, Nat.le_of_ble_eq_true rfl⟩) (hx_recv hU hH (ci := 3) rfl ho) rfl hl.1 rfl (Nat.le_of_ble_eq_true rfl) dX4_meanAge_35 ⟨Nat.le_of_ble_eq_true rfl, Nat.le_of_ble_eq_true rfl⟩ (fun i_4 w H locs hH h => ?_)
              refine lv_if_eq hx hb dX4_meanAge_38 (tgt := 58) (by decide) (fun c_5 => ?_) (fun c_5 => ?_)
              · have h := h.1 c_5
                refine W.widen (k := 0) (n := 0) (Nat.le_of_ble_eq_true rfl) (Nat.le_of_ble_eq_true rfl) ?_
                exact b58 _ _ _ _ _ _ h _ _ _ hH (lv_sub hl [0, 1, 2, 3, 4] rfl)
              · have h := h.2 c_5
                refine lv_lload_n hx hb dX4_meanAge_41 rfl (lv_at hl 1 rfl) ?_
                refine hx_aload_n C0 dX4_meanAge_42 rfl (lv_at hl 0 rfl) ?_
                refine lv_iload hx hb dX4_meanAge_43 (lv_at hl 3 rfl) ?_
                refine lv_iload hx hb dX4_meanAge_45 (lv_at hl 4 rfl) ?_
                refine lv_iconst (v := 1) hx hb dX4_meanAge_47 (by decide) ?_
                obtain ⟨ho, h⟩ := h
                refine hx_Vi C0 hU hH (As := [.int x5, .int x6, .int (1 : Int32)]) (wk_X4_age l h) (cwV 3 hts (lw_V q1220 q1222 qs39 q71 q1223) rfl rfl rfl (by decide +kernel) ⟨Nat.le_of_ble_eq_true rfl, Nat.le_of_ble_eq_true rfl⟩) (hx_recv hU hH (ci := 3) rfl ho) rfl hl.1 rfl (Nat.le_of_ble_eq_true rfl) dX4_meanAge_48 ⟨Nat.le_of_ble_eq_true rfl, Nat.le_of_ble_eq_true rfl⟩ (fun i_6 w H locs hH h => ?_)
                refine lv_i2l hx hb dX4_meanAge_51 rfl ?_
                refine lv_ladd hx hb dX4_meanAge_52 ?_
                refine lv_topl (fun l_7 el_7 => ?_)
                have h := h l_7 el_7
                refine lv_lstore_n hx hb dX4_meanAge_53 rfl hl (by decide) (lv' := [(1, .long l_7), (0, va_rf (some a0)), (3, .long x3), (5, .int x5), (6, .int x6)]) rfl (fun ls hl => ?_)
                refine lv_lload_n hx hb dX4_meanAge_54 rfl (lv_at hl 2 rfl) ?_
                refine lv_lconst (v := 1) hx hb dX4_meanAge_55 (by decide) ?_
                refine lv_ladd hx hb dX4_meanAge_56 ?_
                refine lv_topl (fun l_8 el_8 => ?_)
                have h := h l_8 el_8
                refine lv_lstore_n hx hb dX4_meanAge_57 rfl hl (by decide) (lv' := [(3, .long l_8), (1, .long l_7), (0, va_rf (some a0)), (5, .int x5), (6, .int x6)]) rfl (fun ls hl => ?_)
                refine W.widen (k := 0) (n := 0) (Nat.le_of_ble_eq_true rfl) (Nat.le_of_ble_eq_true rfl) ?_
                exact b58 _ _ _ _ _ _ h _ _ _ hH (lv_sub hl [2, 1, 0, 3, 4] rfl)
      refine lv_iload hx hb dX4_meanAge_7 (lv_at hl 3 rfl) ?_
      refine lv_iconst (v := 3) hx hb dX4_meanAge_9 (by decide) ?_
      refine lv_icmp_ge hx hb dX4_meanAge_10 (tgt := 70) (by decide) (fun c_1 => ?_) (fun c_1 => ?_)
      · have h := h.1 c_1
        refine lv_lload_n hx hb dX4_meanAge_70 rfl (lv_at hl 2 rfl) ?_
        refine lv_lconst (v := 0) hx hb dX4_meanAge_71 (by decide) ?_
        refine W.lcmp hx hb dX4_meanAge_72 ?_
        refine lv_if_ne hx hb dX4_meanAge_73 (tgt := 80) (by decide) (fun c_2 => ?_) (fun c_2 => ?_)
        · have h := h.2 c_2
          refine lv_lload_n hx hb dX4_meanAge_80 rfl (lv_at hl 1 rfl) ?_
          refine lv_l2d hx hb dX4_meanAge_81 ?_
          refine lv_lload_n hx hb dX4_meanAge_82 rfl (lv_at hl 2 rfl) ?_
          refine lv_l2d hx hb dX4_meanAge_83 ?_
          obtain ⟨hg, h⟩ := h
          refine lv_ddiv hx hb dX4_meanAge_84 hg ?_
          exact hx_retd C0 hH hr hlocks h (Nat.le_of_ble_eq_true rfl) (Nat.le_of_ble_eq_true rfl) dX4_meanAge_85
        · have h := h.1 c_2
          refine lv_dconst0 hx hb dX4_meanAge_76 ?_
          refine lv_goto hx hb dX4_meanAge_77 (tgt := 85) (by decide) ?_
          exact hx_retd C0 hH hr hlocks h (Nat.le_of_ble_eq_true rfl) (Nat.le_of_ble_eq_true rfl) dX4_meanAge_85
      · have h := h.2 c_1
        refine lv_iconst (v := 0) hx hb dX4_meanAge_13 (by decide) ?_
        refine lv_istore hx hb dX4_meanAge_14 hl (by decide) (lv' := [(6, .int (0 : Int32)), (0, va_rf (some a0)), (1, .long x1), (3, .long x3), (5, .int x5)]) rfl (fun ls hl => ?_)
        obtain ⟨n9, h⟩ := h
        refine W.widen (k := 0) (n := 0) (Nat.le_of_ble_eq_true rfl) (Nat.le_of_ble_eq_true rfl) ?_
        exact L16 n9 _ _ _ _ _ _ h _ _ _ hH (lv_sub hl [1, 2, 3, 4, 0] rfl)
  refine lv_lconst (v := 0) hx hb dX4_meanAge_0 (by decide) ?_
  refine lv_lstore_n hx hb dX4_meanAge_1 rfl hl (by decide) (lv' := [(1, .long (0 : Int64)), (0, va_rf (some a0))]) rfl (fun ls hl => ?_)
  refine lv_lconst (v := 0) hx hb dX4_meanAge_2 (by decide) ?_
  refine lv_lstore_n hx hb dX4_meanAge_3 rfl hl (by decide) (lv' := [(3, .long (0 : Int64)), (1, .long (0 : Int64)), (0, va_rf (some a0))]) rfl (fun ls hl => ?_)
  refine lv_iconst (v := 0) hx hb dX4_meanAge_4 (by decide) ?_
  refine lv_istore hx hb dX4_meanAge_5 hl (by decide) (lv' := [(5, .int (0 : Int32)), (3, .long (0 : Int64)), (1, .long (0 : Int64)), (0, va_rf (some a0))]) rfl (fun ls hl => ?_)
  obtain ⟨n9, h⟩ := h
  refine W.widen (k := 0) (n := 0) (Nat.le_of_ble_eq_true rfl) (Nat.le_of_ble_eq_true rfl) ?_
  exact L7 n9 _ _ _ _ _ h _ _ _ hH (lv_sub hl [3, 2, 1, 0] rfl)
def wp_X4_isSound (w : Hp) (a0 : Nat) (K : Hp → Int32 → Prop) : Prop :=
  K w (1 : Int32)
abbrev rm_X4_isSound : Room := { frames := 0, cells := 0, slots := 0, locals := 0 }
abbrev ws9_X4_isSound : List Cond := ws_ yX4_isSound cX4_isSound 1 (Option.some Jvm.ClassFile.FieldType.boolean)
abbrev Q9_X4_isSound (below : List Frame) (args : Array Value) (s : State) (G : hG) (K : Hp → Int32 → Prop) : State → Prop := MQ below (hx_Qi G K) args s 0 0 (hx_A G)
set_option maxHeartbeats 4000000 in
set_option maxRecDepth 100000 in
theorem wk_X4_isSound (l : Launch) {G : hG} {w : Hp} {a0 : Nat} {K : Hp → Int32 → Prop} (h : wp_X4_isSound w a0 K) : hx_Mi l yX4_isSound (ws9_X4_isSound) rm_X4_isSound G w [.ref a0] K 0 0 := by
  refine Met.ofW (cc := cX4_isSound) (maxL := 1) (ret := (Option.some Jvm.ClassFile.FieldType.boolean)) (by decide +kernel) rfl ?_
  intro p e s m args below meth c s₁ B hml hv
  refine hx_in (own := RX4) (av := [.ref a0]) (vl := [(0, va_rf (some a0))]) rfl rfl (Nat.le_of_ble_eq_true rfl) rfl B hml hv ?_
  intro C0 hU hH hr hlocks hin ls hl
  have hx := C0.1
  have hb := C0.2.1
  have hts := C0.2.2.2.2
  refine lv_iconst (v := 1) hx hb dX4_isSound_0 (by decide) ?_
  exact hx_retz C0 hH hr hlocks (Or.inr rfl) h (Nat.le_of_ble_eq_true rfl) (Nat.le_of_ble_eq_true rfl) dX4_isSound_1
def wp_X4_add (w : Hp) (a0 : Nat) (x1 : Int64) (K : Hp → Prop) : Prop :=
  gJ w a0 3 26 fun l_1 => pV w a0 3 26 (.long (((31 : Int64) * l_1) + x1)) fun w => K w
abbrev rm_X4_add : Room := { frames := 0, cells := 0, slots := 0, locals := 0 }
abbrev ws9_X4_add : List Cond := ws_ yX4_add cX4_add 3 none
abbrev Q9_X4_add (below : List Frame) (args : Array Value) (s : State) (G : hG) (K : Hp → Prop) : State → Prop := MQ below (hx_Qv G K) args s 0 0 (hx_A G)
set_option maxHeartbeats 4000000 in
set_option maxRecDepth 100000 in
theorem wk_X4_add (l : Launch) {G : hG} {w : Hp} {a0 : Nat} {x1 : Int64} {K : Hp → Prop} (h : wp_X4_add w a0 x1 K) : hx_Mv l yX4_add (ws9_X4_add) rm_X4_add G w [.ref a0, .long x1] K 0 0 := by
  refine Met.ofW (cc := cX4_add) (maxL := 3) (ret := none) (by decide +kernel) rfl ?_
  intro p e s m args below meth c s₁ B hml hv
  refine hx_in (own := RX4) (av := [.ref a0, .long x1]) (vl := [(0, va_rf (some a0)), (1, .long x1)]) rfl rfl (Nat.le_of_ble_eq_true rfl) rfl B hml hv ?_
  intro C0 hU hH hr hlocks hin ls hl
  have hx := C0.1
  have hb := C0.2.1
  have hts := C0.2.2.2.2
  refine hx_aload_n C0 dX4_add_0 rfl (lv_at hl 0 rfl) ?_
  refine lv_ldc2 (v := 31) hx hb C0.2.2.2.1 (hts _ q1277) dX4_add_1 ?_
  refine hx_aload_n C0 dX4_add_4 rfl (lv_at hl 0 rfl) ?_
  refine hx_gJ C0 hU hH (ci := 3) rfl in_X4 26 (by decide) q1097 (fun _ h9 => h9) h dX4_add_5 (fun l_1 h => ?_)
  refine lv_lmul hx hb dX4_add_8 ?_
  refine lv_lload_n hx hb dX4_add_9 rfl (lv_at hl 1 rfl) ?_
  refine lv_ladd hx hb dX4_add_10 ?_
  refine hx_pV C0 hU hH (ci := 3) rfl in_X4 tyX4 tyX4_ok nmX4 26 (by decide) q1097 (fun _ h9 => h9) (Or.inl rfl) rfl rfl h dX4_add_11 (fun w H locs hH h => ?_)
  exact hx_retv C0 hH hr hlocks h (Nat.le_of_ble_eq_true rfl) (Nat.le_of_ble_eq_true rfl) dX4_add_14
def wp_X4_checksum_s369 (K : Hp → Int64 → Prop)  (bk369 : Hp → Nat → Nat → Int32 → Int32 → Prop) (w : Hp) (a0 : Nat) (a1 : Nat) (x2 : Int32) (x3 : Int32) : Prop :=
  br (x2 ≤ x3) (gJ w a0 3 26 fun l_2 => K w l_2) (aI w a1 x3 fun i_3 => isO w a0 3 <| wp_X4_add w a0 (i_3.toInt64) fun w => nm (x3 + 1) fun i_4 => bk369 w a0 a1 x2 i_4)
def wp_X4_checksum_l369 (K : Hp → Int64 → Prop)  : ((Hp × Nat × Nat × Int32 × Int32) → Prop) → (Hp × Nat × Nat × Int32 × Int32) → Prop := fun bk q => wp_X4_checksum_s369 K  (fun w a0 a1 x2 x3 => bk (w, a0, a1, x2, x3)) q.1 q.2.1 q.2.2.1 q.2.2.2.1 q.2.2.2.2
def wp_X4_checksum_b369 (K : Hp → Int64 → Prop)  (w : Hp) (a0 : Nat) (a1 : Nat) (x2 : Int32) (x3 : Int32) : Prop := lp (wp_X4_checksum_l369 K ) (w, a0, a1, x2, x3)
def wp_X4_checksum_s328 (K : Hp → Int64 → Prop) (bk318 : Hp → Nat → Int32 → Prop) (bk328 : Hp → Nat → Int32 → Int32 → Prop) (w : Hp) (a0 : Nat) (x1 : Int32) (x2 : Int32) : Prop :=
  br ((9 : Int32) ≤ x2) (nm (x1 + 1) fun i_2 => bk318 w a0 i_2) (gR w a0 3 23 fun r_3 => dR r_3 fun b_4 => aR w b_4 x1 fun r_5 => dR r_5 fun b_6 => aI w b_6 x2 fun i_7 => isO w a0 3 <| wp_X4_add w a0 (i_7.toInt64) fun w => nm (x2 + 1) fun i_8 => bk328 w a0 x1 i_8)
def wp_X4_checksum_l328 (K : Hp → Int64 → Prop) (bk318 : Hp → Nat → Int32 → Prop) : ((Hp × Nat × Int32 × Int32) → Prop) → (Hp × Nat × Int32 × Int32) → Prop := fun bk q => wp_X4_checksum_s328 K bk318 (fun w a0 x1 x2 => bk (w, a0, x1, x2)) q.1 q.2.1 q.2.2.1 q.2.2.2
def wp_X4_checksum_b328 (K : Hp → Int64 → Prop) (bk318 : Hp → Nat → Int32 → Prop) (w : Hp) (a0 : Nat) (x1 : Int32) (x2 : Int32) : Prop := lp (wp_X4_checksum_l328 K bk318) (w, a0, x1, x2)
def wp_X4_checksum_s318 (K : Hp → Int64 → Prop)  (bk318 : Hp → Nat → Int32 → Prop) (w : Hp) (a0 : Nat) (x1 : Int32) : Prop :=
  gI w a0 3 24 fun i_1 => br (i_1 ≤ x1) (gR w a0 3 7 fun r_3 => dR r_3 fun b_4 => aN w b_4 fun i_5 => wp_X4_checksum_b369 K w a0 b_4 i_5 (0 : Int32)) (wp_X4_checksum_b328 K bk318 w a0 x1 (0 : Int32))
def wp_X4_checksum_l318 (K : Hp → Int64 → Prop)  : ((Hp × Nat × Int32) → Prop) → (Hp × Nat × Int32) → Prop := fun bk q => wp_X4_checksum_s318 K  (fun w a0 x1 => bk (w, a0, x1)) q.1 q.2.1 q.2.2
def wp_X4_checksum_b318 (K : Hp → Int64 → Prop)  (w : Hp) (a0 : Nat) (x1 : Int32) : Prop := lp (wp_X4_checksum_l318 K ) (w, a0, x1)
def wp_X4_checksum_b304 (K : Hp → Int64 → Prop) (bk248 : Hp → Nat → Int32 → Prop) (bk275 : Hp → Nat → Int32 → Nat → Int32 → Int32 → Prop) (w : Hp) (a0 : Nat) (x1 : Int32) (a2 : Nat) (x3 : Int32) (x4 : Int32) : Prop :=
  nm (x4 + 1) fun i_1 => bk275 w a0 x1 a2 x3 i_1
def wp_X4_checksum_s275 (K : Hp → Int64 → Prop) (bk248 : Hp → Nat → Int32 → Prop) (bk275 : Hp → Nat → Int32 → Nat → Int32 → Int32 → Prop) (w : Hp) (a0 : Nat) (x1 : Int32) (a2 : Nat) (x3 : Int32) (x4 : Int32) : Prop :=
  br (x3 ≤ x4) (nm (x1 + 1) fun i_2 => bk248 w a0 i_2) (aR w a2 x4 fun r_3 => dR r_3 fun b_4 => aI w b_4 (0 : Int32) fun i_5 => br (i_5 = x1) (aI w b_4 (4 : Int32) fun i_7 => isO w a0 3 <| wp_X4_add w a0 (i_7.toInt64) fun w => wp_X4_checksum_b304 K bk248 bk275 w a0 x1 a2 x3 x4) (wp_X4_checksum_b304 K bk248 bk275 w a0 x1 a2 x3 x4))
def wp_X4_checksum_l275 (K : Hp → Int64 → Prop) (bk248 : Hp → Nat → Int32 → Prop) : ((Hp × Nat × Int32 × Nat × Int32 × Int32) → Prop) → (Hp × Nat × Int32 × Nat × Int32 × Int32) → Prop := fun bk q => wp_X4_checksum_s275 K bk248 (fun w a0 x1 a2 x3 x4 => bk (w, a0, x1, a2, x3, x4)) q.1 q.2.1 q.2.2.1 q.2.2.2.1 q.2.2.2.2.1 q.2.2.2.2.2
def wp_X4_checksum_b275 (K : Hp → Int64 → Prop) (bk248 : Hp → Nat → Int32 → Prop) (w : Hp) (a0 : Nat) (x1 : Int32) (a2 : Nat) (x3 : Int32) (x4 : Int32) : Prop := lp (wp_X4_checksum_l275 K bk248) (w, a0, x1, a2, x3, x4)
def wp_X4_checksum_s248 (K : Hp → Int64 → Prop)  (bk248 : Hp → Nat → Int32 → Prop) (w : Hp) (a0 : Nat) (x1 : Int32) : Prop :=
  br ((3 : Int32) ≤ x1) (wp_X4_checksum_b318 K w a0 (0 : Int32)) (gR w a0 3 6 fun r_2 => dR r_2 fun b_3 => aI w b_3 x1 fun i_4 => isO w a0 3 <| wp_X4_add w a0 (i_4.toInt64) fun w => gR w a0 3 25 fun r_5 => dR r_5 fun b_6 => aN w b_6 fun i_7 => wp_X4_checksum_b275 K bk248 w a0 x1 b_6 i_7 (0 : Int32))
def wp_X4_checksum_l248 (K : Hp → Int64 → Prop)  : ((Hp × Nat × Int32) → Prop) → (Hp × Nat × Int32) → Prop := fun bk q => wp_X4_checksum_s248 K  (fun w a0 x1 => bk (w, a0, x1)) q.1 q.2.1 q.2.2
def wp_X4_checksum_b248 (K : Hp → Int64 → Prop)  (w : Hp) (a0 : Nat) (x1 : Int32) : Prop := lp (wp_X4_checksum_l248 K ) (w, a0, x1)
def wp_X4_checksum_b234 (K : Hp → Int64 → Prop) (bk71 : Hp → Nat → Int32 → Prop) (bk78 : Hp → Nat → Int32 → Int32 → Prop) (w : Hp) (a0 : Nat) (x1 : Int32) (x2 : Int32) : Prop :=
  nm (x2 + 1) fun i_1 => bk78 w a0 x1 i_1
def wp_X4_checksum_b228 (K : Hp → Int64 → Prop) (bk71 : Hp → Nat → Int32 → Prop) (bk78 : Hp → Nat → Int32 → Int32 → Prop) (bk145 : Hp → Nat → Int32 → Int32 → Int32 → Prop) (w : Hp) (a0 : Nat) (x1 : Int32) (x2 : Int32) (x3 : Int32) : Prop :=
  nm (x3 + 1) fun i_1 => bk145 w a0 x1 x2 i_1
def wp_X4_checksum_b184 (K : Hp → Int64 → Prop) (bk71 : Hp → Nat → Int32 → Prop) (bk78 : Hp → Nat → Int32 → Int32 → Prop) (bk145 : Hp → Nat → Int32 → Int32 → Int32 → Prop) (w : Hp) (a0 : Nat) (x1 : Int32) (x2 : Int32) (x3 : Int32) (r4 : Option Nat) (t0 : Int64) (at1 : Nat) : Prop :=
  isO w at1 3 <| wp_X4_add w at1 t0 fun w => isO w a0 3 <| wp_X4_isThere w a0 x1 x2 x3 fun w i_1 => br (i_1 = 0) (wp_X4_checksum_b228 K bk71 bk78 bk145 w a0 x1 x2 x3) (dR r4 fun b_3 => aI w b_3 (3 : Int32) fun i_4 => isO w a0 3 <| wp_X4_add w a0 (i_4.toInt64) fun w => aI w b_3 (5 : Int32) fun i_5 => isO w a0 3 <| wp_X4_add w a0 (i_5.toInt64) fun w => aI w b_3 (8 : Int32) fun i_6 => isO w a0 3 <| wp_X4_add w a0 (i_6.toInt64) fun w => wp_X4_checksum_b228 K bk71 bk78 bk145 w a0 x1 x2 x3)
def wp_X4_checksum_s145 (K : Hp → Int64 → Prop) (bk71 : Hp → Nat → Int32 → Prop) (bk78 : Hp → Nat → Int32 → Int32 → Prop) (bk145 : Hp → Nat → Int32 → Int32 → Int32 → Prop) (w : Hp) (a0 : Nat) (x1 : Int32) (x2 : Int32) (x3 : Int32) : Prop :=
  br ((3 : Int32) ≤ x3) (wp_X4_checksum_b234 K bk71 bk78 w a0 x1 x2) (gR w a0 3 21 fun r_2 => dR r_2 fun b_3 => aR w b_3 x1 fun r_4 => dR r_4 fun b_5 => aR w b_5 x2 fun r_6 => dR r_6 fun b_7 => aR w b_7 x3 fun r_8 => isO w a0 3 <| wp_X4_isThere w a0 x1 x2 x3 fun w i_9 => br (i_9 = 0) (wp_X4_checksum_b184 K bk71 bk78 bk145 w a0 x1 x2 x3 r_8 (-1 : Int64) a0) (dR r_8 fun b_11 => aI w b_11 (0 : Int32) fun i_12 => wp_X4_checksum_b184 K bk71 bk78 bk145 w a0 x1 x2 x3 (some b_11) (i_12.toInt64) a0))
def wp_X4_checksum_l145 (K : Hp → Int64 → Prop) (bk71 : Hp → Nat → Int32 → Prop) (bk78 : Hp → Nat → Int32 → Int32 → Prop) : ((Hp × Nat × Int32 × Int32 × Int32) → Prop) → (Hp × Nat × Int32 × Int32 × Int32) → Prop := fun bk q => wp_X4_checksum_s145 K bk71 bk78 (fun w a0 x1 x2 x3 => bk (w, a0, x1, x2, x3)) q.1 q.2.1 q.2.2.1 q.2.2.2.1 q.2.2.2.2
def wp_X4_checksum_b145 (K : Hp → Int64 → Prop) (bk71 : Hp → Nat → Int32 → Prop) (bk78 : Hp → Nat → Int32 → Int32 → Prop) (w : Hp) (a0 : Nat) (x1 : Int32) (x2 : Int32) (x3 : Int32) : Prop := lp (wp_X4_checksum_l145 K bk71 bk78) (w, a0, x1, x2, x3)
def wp_X4_checksum_s78 (K : Hp → Int64 → Prop) (bk71 : Hp → Nat → Int32 → Prop) (bk78 : Hp → Nat → Int32 → Int32 → Prop) (w : Hp) (a0 : Nat) (x1 : Int32) (x2 : Int32) : Prop :=
  br ((3 : Int32) ≤ x2) (nm (x1 + 1) fun i_2 => bk71 w a0 i_2) (br (x2 = x1) (wp_X4_checksum_b234 K bk71 bk78 w a0 x1 x2) (gR w a0 3 10 fun r_4 => dR r_4 fun b_5 => aR w b_5 x1 fun r_6 => dR r_6 fun b_7 => aI w b_7 x2 fun i_8 => isO w a0 3 <| wp_X4_add w a0 (i_8.toInt64) fun w => gR w a0 3 13 fun r_9 => dR r_9 fun b_10 => aR w b_10 x1 fun r_11 => dR r_11 fun b_12 => aI w b_12 x2 fun i_13 => isO w a0 3 <| wp_X4_add w a0 (i_13.toInt64) fun w => gR w a0 3 11 fun r_14 => dR r_14 fun b_15 => aR w b_15 x1 fun r_16 => dR r_16 fun b_17 => aI w b_17 x2 fun i_18 => isO w a0 3 <| wp_X4_add w a0 (i_18.toInt64) fun w => gR w a0 3 19 fun r_19 => dR r_19 fun b_20 => aR w b_20 x1 fun r_21 => dR r_21 fun b_22 => aI w b_22 x2 fun i_23 => isO w a0 3 <| wp_X4_add w a0 (i_23.toInt64) fun w => wp_X4_checksum_b145 K bk71 bk78 w a0 x1 x2 (0 : Int32)))
def wp_X4_checksum_l78 (K : Hp → Int64 → Prop) (bk71 : Hp → Nat → Int32 → Prop) : ((Hp × Nat × Int32 × Int32) → Prop) → (Hp × Nat × Int32 × Int32) → Prop := fun bk q => wp_X4_checksum_s78 K bk71 (fun w a0 x1 x2 => bk (w, a0, x1, x2)) q.1 q.2.1 q.2.2.1 q.2.2.2
def wp_X4_checksum_b78 (K : Hp → Int64 → Prop) (bk71 : Hp → Nat → Int32 → Prop) (w : Hp) (a0 : Nat) (x1 : Int32) (x2 : Int32) : Prop := lp (wp_X4_checksum_l78 K bk71) (w, a0, x1, x2)
def wp_X4_checksum_s71 (K : Hp → Int64 → Prop)  (bk71 : Hp → Nat → Int32 → Prop) (w : Hp) (a0 : Nat) (x1 : Int32) : Prop :=
  br ((3 : Int32) ≤ x1) (wp_X4_checksum_b248 K w a0 (0 : Int32)) (wp_X4_checksum_b78 K bk71 w a0 x1 (0 : Int32))
def wp_X4_checksum_l71 (K : Hp → Int64 → Prop)  : ((Hp × Nat × Int32) → Prop) → (Hp × Nat × Int32) → Prop := fun bk q => wp_X4_checksum_s71 K  (fun w a0 x1 => bk (w, a0, x1)) q.1 q.2.1 q.2.2
def wp_X4_checksum_b71 (K : Hp → Int64 → Prop)  (w : Hp) (a0 : Nat) (x1 : Int32) : Prop := lp (wp_X4_checksum_l71 K ) (w, a0, x1)
def wp_X4_checksum_b49 (K : Hp → Int64 → Prop) (bk18 : Hp → Nat → Int32 → Prop) (w : Hp) (a0 : Nat) (x1 : Int32) (t0 : Int64) (at1 : Nat) : Prop :=
  isO w at1 3 <| wp_X4_add w at1 t0 fun w => gR w a0 3 5 fun r_1 => dR r_1 fun b_2 => aI w b_2 x1 fun i_3 => isO w a0 3 <| wp_X4_add w a0 (i_3.toInt64) fun w => nm (x1 + 1) fun i_4 => bk18 w a0 i_4
def wp_X4_checksum_s18 (K : Hp → Int64 → Prop)  (bk18 : Hp → Nat → Int32 → Prop) (w : Hp) (a0 : Nat) (x1 : Int32) : Prop :=
  br ((3 : Int32) ≤ x1) (wp_X4_checksum_b71 K w a0 (0 : Int32)) (gR w a0 3 4 fun r_2 => dR r_2 fun b_3 => aI w b_3 x1 fun i_4 => isO w a0 3 <| wp_X4_add w a0 (i_4.toInt64) fun w => gR w a0 3 8 fun r_5 => dR r_5 fun b_6 => aZ w b_6 x1 fun i_7 => br (i_7 = 0) (wp_X4_checksum_b49 K bk18 w a0 x1 (0 : Int64) a0) (wp_X4_checksum_b49 K bk18 w a0 x1 (1 : Int64) a0))
def wp_X4_checksum_l18 (K : Hp → Int64 → Prop)  : ((Hp × Nat × Int32) → Prop) → (Hp × Nat × Int32) → Prop := fun bk q => wp_X4_checksum_s18 K  (fun w a0 x1 => bk (w, a0, x1)) q.1 q.2.1 q.2.2
def wp_X4_checksum_b18 (K : Hp → Int64 → Prop)  (w : Hp) (a0 : Nat) (x1 : Int32) : Prop := lp (wp_X4_checksum_l18 K ) (w, a0, x1)
def wp_X4_checksum (w : Hp) (a0 : Nat) (K : Hp → Int64 → Prop) : Prop :=
  pV w a0 3 26 (.long (31 : Int64)) fun w => gI w a0 3 0 fun i_1 => isO w a0 3 <| wp_X4_add w a0 (i_1.toInt64) fun w => wp_X4_checksum_b18 K w a0 (0 : Int32)
abbrev rm_X4_checksum : Room := { frames := 1, cells := 0, slots := 0, locals := 23 }
abbrev ws9_X4_checksum : List Cond := ws_ yX4_checksum cX4_checksum 6 (Option.some Jvm.ClassFile.FieldType.long)
abbrev Q9_X4_checksum (below : List Frame) (args : Array Value) (s : State) (G : hG) (K : Hp → Int64 → Prop) : State → Prop := MQ below (hx_Ql G K) args s 0 0 (hx_A G)
set_option maxHeartbeats 4000000 in
set_option maxRecDepth 100000 in
theorem wk_X4_checksum (l : Launch) {G : hG} {w : Hp} {a0 : Nat} {K : Hp → Int64 → Prop} (h : wp_X4_checksum w a0 K) : hx_Ml l yX4_checksum (ws9_X4_checksum) rm_X4_checksum G w [.ref a0] K 0 0 := by
  refine Met.ofW (cc := cX4_checksum) (maxL := 6) (ret := (Option.some Jvm.ClassFile.FieldType.long)) (by decide +kernel) rfl ?_
  intro p e s m args below meth c s₁ B hml hv
  refine hx_in (own := RX4) (av := [.ref a0]) (vl := [(0, va_rf (some a0))]) rfl rfl (Nat.le_of_ble_eq_true rfl) rfl B hml hv ?_
  intro C0 hU hH hr hlocks hin ls hl
  have hx := C0.1
  have hb := C0.2.1
  have hts := C0.2.2.2.2
  have L369 : ∀ (n369 : Nat) (w : Hp) (a0 : Nat) (a1 : Nat) (x2 : Int32) (x3 : Int32), lpN (wp_X4_checksum_l369 K ) n369 (w, a0, a1, x2, x3) → ∀ (H : Heap) (locs : List Loc) (ls : Array Slot), hx_H G w s H locs → lv_has ls 6 [(0, va_rf (some a0)), (1, va_rf (some a1)), (2, .int x2), (3, .int x3)] → W p l e (headSpec (ws9_X4_checksum) rm_X4_checksum).room s m args below meth c H locs (0) (0) (Q9_X4_checksum below args s G K) (F0 m 369 ls []) := by
    intro n369
    induction n369 with
    | zero => intro w a0 a1 x2 x3 h; exact h.elim
    | succ n369 ih369 =>
      intro w a0 a1 x2 x3 h H locs ls hH hl
      have h : wp_X4_checksum_s369 K  (fun w a0 a1 x2 x3 => lpN (wp_X4_checksum_l369 K ) n369 (w, a0, a1, x2, x3)) w a0 a1 x2 x3 := h
      refine lv_iload_n hx hb dX4_checksum_369 rfl (lv_at hl 3 rfl) ?_
      refine lv_iload_n hx hb dX4_checksum_370 rfl (lv_at hl 2 rfl) ?_
      refine lv_icmp_ge hx hb dX4_checksum_371 (tgt := 392) (by decide) (fun c_1 => ?_) (fun c_1 => ?_)
      · have h := h.1 c_1
        refine hx_aload_n C0 dX4_checksum_392 rfl (lv_at hl 0 rfl) ?_
        refine hx_gJ C0 hU hH (ci := 3) rfl in_X4 26 (by decide) q1097 (fun _ h9 => h9) h dX4_checksum_393 (fun l_2 h => ?_)
        exact hx_retl C0 hH hr hlocks h (Nat.le_of_ble_eq_true rfl) (Nat.le_of_ble_eq_true rfl) dX4_checksum_396
      · have h := h.2 c_1
        refine hx_aload_n C0 dX4_checksum_374 rfl (lv_at hl 1 rfl) ?_
        refine lv_iload_n hx hb dX4_checksum_375 rfl (lv_at hl 3 rfl) ?_
        refine hx_aI C0 hU hH h dX4_checksum_376 (fun i_3 h => ?_)
        refine lv_istore hx hb dX4_checksum_377 hl (by decide) (lv' := [(4, .int i_3), (0, va_rf (some a0)), (1, va_rf (some a1)), (2, .int x2), (3, .int x3)]) rfl (fun ls hl => ?_)
        refine hx_aload_n C0 dX4_checksum_379 rfl (lv_at hl 1 rfl) ?_
        refine lv_iload hx hb dX4_checksum_380 (lv_at hl 0 rfl) ?_
        refine lv_i2l hx hb dX4_checksum_382 rfl ?_
        obtain ⟨ho, h⟩ := h
        refine hx_Vv C0 hU hH (As := [.long (i_3.toInt64)]) (wk_X4_add l h) (cwV 1 hts (lw_V q1476 q1478 qs58 q71 q1479) rfl rfl rfl (by decide +kernel) ⟨Nat.le_of_ble_eq_true rfl, Nat.le_of_ble_eq_true rfl⟩) (hx_recv hU hH (ci := 3) rfl ho) rfl hl.1 rfl (Nat.le_of_ble_eq_true rfl) dX4_checksum_383 ⟨Nat.le_of_ble_eq_true rfl, Nat.le_of_ble_eq_true rfl⟩ (fun w H locs hH h => ?_)
        obtain ⟨i_4, ei_4⟩ : ∃ z, z = x3 + 1 := ⟨_, rfl⟩
        have h := h i_4 ei_4
        refine lv_iinc (k := 4) hx hb dX4_checksum_386 hl rfl (v := i_4) (by rw [ei_4]; rfl) (by decide) (lv' := [(3, .int i_4), (4, .int i_3), (0, va_rf (some a0)), (1, va_rf (some a1)), (2, .int x2)]) rfl (fun ls hl => ?_)
        refine lv_goto hx hb dX4_checksum_389 (tgt := 369) (by decide) ?_
        refine W.widen (k := 0) (n := 0) (Nat.le_of_ble_eq_true rfl) (Nat.le_of_ble_eq_true rfl) ?_
        exact ih369 _ _ _ _ _ h _ _ _ hH (lv_sub hl [2, 3, 4, 0] rfl)
  have L318 : ∀ (n318 : Nat) (w : Hp) (a0 : Nat) (x1 : Int32), lpN (wp_X4_checksum_l318 K ) n318 (w, a0, x1) → ∀ (H : Heap) (locs : List Loc) (ls : Array Slot), hx_H G w s H locs → lv_has ls 6 [(0, va_rf (some a0)), (1, .int x1)] → W p l e (headSpec (ws9_X4_checksum) rm_X4_checksum).room s m args below meth c H locs (0) (0) (Q9_X4_checksum below args s G K) (F0 m 318 ls []) := by
    intro n318
    induction n318 with
    | zero => intro w a0 x1 h; exact h.elim
    | succ n318 ih318 =>
      intro w a0 x1 h H locs ls hH hl
      have h : wp_X4_checksum_s318 K  (fun w a0 x1 => lpN (wp_X4_checksum_l318 K ) n318 (w, a0, x1)) w a0 x1 := h
      have L328 : ∀ (n328 : Nat) (w : Hp) (a0 : Nat) (x1 : Int32) (x2 : Int32), lpN (wp_X4_checksum_l328 K (fun w a0 x1 => lpN (wp_X4_checksum_l318 K ) n318 (w, a0, x1))) n328 (w, a0, x1, x2) → ∀ (H : Heap) (locs : List Loc) (ls : Array Slot), hx_H G w s H locs → lv_has ls 6 [(0, va_rf (some a0)), (1, .int x1), (2, .int x2)] → W p l e (headSpec (ws9_X4_checksum) rm_X4_checksum).room s m args below meth c H locs (0) (0) (Q9_X4_checksum below args s G K) (F0 m 328 ls []) := by
        intro n328
        induction n328 with
        | zero => intro w a0 x1 x2 h; exact h.elim
        | succ n328 ih328 =>
          intro w a0 x1 x2 h H locs ls hH hl
          have h : wp_X4_checksum_s328 K (fun w a0 x1 => lpN (wp_X4_checksum_l318 K ) n318 (w, a0, x1)) (fun w a0 x1 x2 => lpN (wp_X4_checksum_l328 K (fun w a0 x1 => lpN (wp_X4_checksum_l318 K ) n318 (w, a0, x1))) n328 (w, a0, x1, x2)) w a0 x1 x2 := h
          refine lv_iload_n hx hb dX4_checksum_328 rfl (lv_at hl 2 rfl) ?_
          refine lv_bipush (v := 9) hx hb dX4_checksum_329 (by decide) ?_
          refine lv_icmp_ge hx hb dX4_checksum_331 (tgt := 353) (by decide) (fun c_1 => ?_) (fun c_1 => ?_)
          · have h := h.1 c_1
            obtain ⟨i_2, ei_2⟩ : ∃ z, z = x1 + 1 := ⟨_, rfl⟩
            have h := h i_2 ei_2
            refine lv_iinc (k := 1) hx hb dX4_checksum_353 hl rfl (v := i_2) (by rw [ei_2]; rfl) (by decide) (lv' := [(1, .int i_2), (0, va_rf (some a0)), (2, .int x2)]) rfl (fun ls hl => ?_)
            refine lv_goto hx hb dX4_checksum_356 (tgt := 318) (by decide) ?_
            refine W.widen (k := 0) (n := 0) (Nat.le_of_ble_eq_true rfl) (Nat.le_of_ble_eq_true rfl) ?_
            exact ih318 _ _ _ h _ _ _ hH (lv_sub hl [1, 0] rfl)
          · have h := h.2 c_1
            refine hx_aload_n C0 dX4_checksum_334 rfl (lv_at hl 0 rfl) ?_
            refine hx_aload_n C0 dX4_checksum_335 rfl (lv_at hl 0 rfl) ?_
            refine hx_gR C0 hU hH (ci := 3) rfl in_X4 23 (by decide) q1094 (fun _ h9 => h9) h dX4_checksum_336 (fun r_3 h => ?_)
            refine lv_iload_n hx hb dX4_checksum_339 rfl (lv_at hl 1 rfl) ?_
            obtain ⟨b_4, rfl, h9⟩ := h
            have h := h9
            clear h9
            refine hx_aR C0 hU hH h dX4_checksum_340 (fun r_5 h => ?_)
            refine lv_iload_n hx hb dX4_checksum_341 rfl (lv_at hl 2 rfl) ?_
            obtain ⟨b_6, rfl, h9⟩ := h
            have h := h9
            clear h9
            refine hx_aI C0 hU hH h dX4_checksum_342 (fun i_7 h => ?_)
            refine lv_i2l hx hb dX4_checksum_343 rfl ?_
            obtain ⟨ho, h⟩ := h
            refine hx_Vv C0 hU hH (As := [.long (i_7.toInt64)]) (wk_X4_add l h) (cwV 1 hts (lw_V q1476 q1478 qs58 q71 q1479) rfl rfl rfl (by decide +kernel) ⟨Nat.le_of_ble_eq_true rfl, Nat.le_of_ble_eq_true rfl⟩) (hx_recv hU hH (ci := 3) rfl ho) rfl hl.1 rfl (Nat.le_of_ble_eq_true rfl) dX4_checksum_344 ⟨Nat.le_of_ble_eq_true rfl, Nat.le_of_ble_eq_true rfl⟩ (fun w H locs hH h => ?_)
            obtain ⟨i_8, ei_8⟩ : ∃ z, z = x2 + 1 := ⟨_, rfl⟩
            have h := h i_8 ei_8
            refine lv_iinc (k := 2) hx hb dX4_checksum_347 hl rfl (v := i_8) (by rw [ei_8]; rfl) (by decide) (lv' := [(2, .int i_8), (0, va_rf (some a0)), (1, .int x1)]) rfl (fun ls hl => ?_)
            refine lv_goto hx hb dX4_checksum_350 (tgt := 328) (by decide) ?_
            refine W.widen (k := 0) (n := 0) (Nat.le_of_ble_eq_true rfl) (Nat.le_of_ble_eq_true rfl) ?_
            exact ih328 _ _ _ _ h _ _ _ hH (lv_sub hl [1, 2, 0] rfl)
      refine lv_iload_n hx hb dX4_checksum_318 rfl (lv_at hl 1 rfl) ?_
      refine hx_aload_n C0 dX4_checksum_319 rfl (lv_at hl 0 rfl) ?_
      refine hx_gI C0 hU hH (ci := 3) rfl in_X4 24 (by decide) q1095 (fun _ h9 => h9) h dX4_checksum_320 (fun i_1 h => ?_)
      refine lv_icmp_ge hx hb dX4_checksum_323 (tgt := 359) (by decide) (fun c_2 => ?_) (fun c_2 => ?_)
      · have h := h.1 c_2
        refine hx_aload_n C0 dX4_checksum_359 rfl (lv_at hl 0 rfl) ?_
        refine hx_gR C0 hU hH (ci := 3) rfl in_X4 7 (by decide) q1078 (fun _ h9 => h9) h dX4_checksum_360 (fun r_3 h => ?_)
        refine hx_astore_n C0 dX4_checksum_363 rfl hl (by decide) (lv' := [(1, va_rf r_3), (0, va_rf (some a0))]) rfl (fun ls hl => ?_)
        refine hx_aload_n C0 dX4_checksum_364 rfl (lv_at hl 0 rfl) ?_
        obtain ⟨b_4, rfl, h9⟩ := h
        have h := h9
        clear h9
        refine hx_aN C0 hU hH h dX4_checksum_365 (fun i_5 h => ?_)
        refine lv_istore_n hx hb dX4_checksum_366 rfl hl (by decide) (lv' := [(2, .int i_5), (1, va_rf (some b_4)), (0, va_rf (some a0))]) rfl (fun ls hl => ?_)
        refine lv_iconst (v := 0) hx hb dX4_checksum_367 (by decide) ?_
        refine lv_istore_n hx hb dX4_checksum_368 rfl hl (by decide) (lv' := [(3, .int (0 : Int32)), (2, .int i_5), (1, va_rf (some b_4)), (0, va_rf (some a0))]) rfl (fun ls hl => ?_)
        obtain ⟨n9, h⟩ := h
        refine W.widen (k := 0) (n := 0) (Nat.le_of_ble_eq_true rfl) (Nat.le_of_ble_eq_true rfl) ?_
        exact L369 n9 _ _ _ _ _ h _ _ _ hH (lv_sub hl [3, 2, 1, 0] rfl)
      · have h := h.2 c_2
        refine lv_iconst (v := 0) hx hb dX4_checksum_326 (by decide) ?_
        refine lv_istore_n hx hb dX4_checksum_327 rfl hl (by decide) (lv' := [(2, .int (0 : Int32)), (0, va_rf (some a0)), (1, .int x1)]) rfl (fun ls hl => ?_)
        obtain ⟨n9, h⟩ := h
        refine W.widen (k := 0) (n := 0) (Nat.le_of_ble_eq_true rfl) (Nat.le_of_ble_eq_true rfl) ?_
        exact L328 n9 _ _ _ _ h _ _ _ hH (lv_sub hl [1, 2, 0] rfl)
  have L248 : ∀ (n248 : Nat) (w : Hp) (a0 : Nat) (x1 : Int32), lpN (wp_X4_checksum_l248 K ) n248 (w, a0, x1) → ∀ (H : Heap) (locs : List Loc) (ls : Array Slot), hx_H G w s H locs → lv_has ls 6 [(0, va_rf (some a0)), (1, .int x1)] → W p l e (headSpec (ws9_X4_checksum) rm_X4_checksum).room s m args below meth c H locs (0) (0) (Q9_X4_checksum below args s G K) (F0 m 248 ls []) := by
    intro n248
    induction n248 with
    | zero => intro w a0 x1 h; exact h.elim
    | succ n248 ih248 =>
      intro w a0 x1 h H locs ls hH hl
      have h : wp_X4_checksum_s248 K  (fun w a0 x1 => lpN (wp_X4_checksum_l248 K ) n248 (w, a0, x1)) w a0 x1 := h
      have L275 : ∀ (n275 : Nat) (w : Hp) (a0 : Nat) (x1 : Int32) (a2 : Nat) (x3 : Int32) (x4 : Int32), lpN (wp_X4_checksum_l275 K (fun w a0 x1 => lpN (wp_X4_checksum_l248 K ) n248 (w, a0, x1))) n275 (w, a0, x1, a2, x3, x4) → ∀ (H : Heap) (locs : List Loc) (ls : Array Slot), hx_H G w s H locs → lv_has ls 6 [(0, va_rf (some a0)), (1, .int x1), (2, va_rf (some a2)), (3, .int x3), (4, .int x4)] → W p l e (headSpec (ws9_X4_checksum) rm_X4_checksum).room s m args below meth c H locs (0) (0) (Q9_X4_checksum below args s G K) (F0 m 275 ls []) := by
        intro n275
        induction n275 with
        | zero => intro w a0 x1 a2 x3 x4 h; exact h.elim
        | succ n275 ih275 =>
          intro w a0 x1 a2 x3 x4 h H locs ls hH hl
          have h : wp_X4_checksum_s275 K (fun w a0 x1 => lpN (wp_X4_checksum_l248 K ) n248 (w, a0, x1)) (fun w a0 x1 a2 x3 x4 => lpN (wp_X4_checksum_l275 K (fun w a0 x1 => lpN (wp_X4_checksum_l248 K ) n248 (w, a0, x1))) n275 (w, a0, x1, a2, x3, x4)) w a0 x1 a2 x3 x4 := h
          have b304 : ∀ (w : Hp) (a0 : Nat) (x1 : Int32) (a2 : Nat) (x3 : Int32) (x4 : Int32), wp_X4_checksum_b304 K (fun w a0 x1 => lpN (wp_X4_checksum_l248 K ) n248 (w, a0, x1)) (fun w a0 x1 a2 x3 x4 => lpN (wp_X4_checksum_l275 K (fun w a0 x1 => lpN (wp_X4_checksum_l248 K ) n248 (w, a0, x1))) n275 (w, a0, x1, a2, x3, x4)) w a0 x1 a2 x3 x4 → ∀ (H : Heap) (locs : List Loc) (ls : Array Slot), hx_H G w s H locs → lv_has ls 6 [(0, va_rf (some a0)), (1, .int x1), (2, va_rf (some a2)), (3, .int x3), (4, .int x4)] → W p l e (headSpec (ws9_X4_checksum) rm_X4_checksum).room s m args below meth c H locs (0) (0) (Q9_X4_checksum below args s G K) (F0 m 304 ls []) := by
            intro w a0 x1 a2 x3 x4 h H locs ls hH hl
            obtain ⟨i_1, ei_1⟩ : ∃ z, z = x4 + 1 := ⟨_, rfl⟩
            have h := h i_1 ei_1
            refine lv_iinc (k := 4) hx hb dX4_checksum_304 hl rfl (v := i_1) (by rw [ei_1]; rfl) (by decide) (lv' := [(4, .int i_1), (0, va_rf (some a0)), (1, .int x1), (2, va_rf (some a2)), (3, .int x3)]) rfl (fun ls hl => ?_)
            refine lv_goto hx hb dX4_checksum_307 (tgt := 275) (by decide) ?_
            refine W.widen (k := 0) (n := 0) (Nat.le_of_ble_eq_true rfl) (Nat.le_of_ble_eq_true rfl) ?_
            exact ih275 _ _ _ _ _ _ h _ _ _ hH (lv_sub hl [1, 2, 3, 4, 0] rfl)
          refine lv_iload hx hb dX4_checksum_275 (lv_at hl 4 rfl) ?_
          refine lv_iload_n hx hb dX4_checksum_277 rfl (lv_at hl 3 rfl) ?_
          refine lv_icmp_ge hx hb dX4_checksum_278 (tgt := 310) (by decide) (fun c_1 => ?_) (fun c_1 => ?_)
          · have h := h.1 c_1
            obtain ⟨i_2, ei_2⟩ : ∃ z, z = x1 + 1 := ⟨_, rfl⟩
            have h := h i_2 ei_2
            refine lv_iinc (k := 1) hx hb dX4_checksum_310 hl rfl (v := i_2) (by rw [ei_2]; rfl) (by decide) (lv' := [(1, .int i_2), (0, va_rf (some a0)), (2, va_rf (some a2)), (3, .int x3), (4, .int x4)]) rfl (fun ls hl => ?_)
            refine lv_goto hx hb dX4_checksum_313 (tgt := 248) (by decide) ?_
            refine W.widen (k := 0) (n := 0) (Nat.le_of_ble_eq_true rfl) (Nat.le_of_ble_eq_true rfl) ?_
            exact ih248 _ _ _ h _ _ _ hH (lv_sub hl [1, 0] rfl)
          · have h := h.2 c_1
            refine hx_aload_n C0 dX4_checksum_281 rfl (lv_at hl 2 rfl) ?_
            refine lv_iload hx hb dX4_checksum_282 (lv_at hl 4 rfl) ?_
            refine hx_aR C0 hU hH h dX4_checksum_284 (fun r_3 h => ?_)
            refine hx_astore C0 dX4_checksum_285 hl (by decide) (lv' := [(5, va_rf r_3), (0, va_rf (some a0)), (1, .int x1), (2, va_rf (some a2)), (3, .int x3), (4, .int x4)]) rfl (fun ls hl => ?_)
            refine hx_aload C0 dX4_checksum_287 (lv_at hl 0 rfl) ?_
            refine lv_iconst (v := 0) hx hb dX4_checksum_289 (by decide) ?_
            obtain ⟨b_4, rfl, h9⟩ := h
            have h := h9
            clear h9
            refine hx_aI C0 hU hH h dX4_checksum_290 (fun i_5 h => ?_)
            refine lv_iload_n hx hb dX4_checksum_291 rfl (lv_at hl 2 rfl) ?_
            refine lv_icmp_ne hx hb dX4_checksum_292 (tgt := 304) (by decide) (fun c_6 => ?_) (fun c_6 => ?_)
            · have h := h.2 c_6
              refine W.widen (k := 0) (n := 0) (Nat.le_of_ble_eq_true rfl) (Nat.le_of_ble_eq_true rfl) ?_
              exact b304 _ _ _ _ _ _ h _ _ _ hH (lv_sub hl [1, 2, 3, 4, 5] rfl)
            · have h := h.1 c_6
              refine hx_aload_n C0 dX4_checksum_295 rfl (lv_at hl 1 rfl) ?_
              refine hx_aload C0 dX4_checksum_296 (lv_at hl 0 rfl) ?_
              refine lv_iconst (v := 4) hx hb dX4_checksum_298 (by decide) ?_
              refine hx_aI C0 hU hH h dX4_checksum_299 (fun i_7 h => ?_)
              refine lv_i2l hx hb dX4_checksum_300 rfl ?_
              obtain ⟨ho, h⟩ := h
              refine hx_Vv C0 hU hH (As := [.long (i_7.toInt64)]) (wk_X4_add l h) (cwV 1 hts (lw_V q1476 q1478 qs58 q71 q1479) rfl rfl rfl (by decide +kernel) ⟨Nat.le_of_ble_eq_true rfl, Nat.le_of_ble_eq_true rfl⟩) (hx_recv hU hH (ci := 3) rfl ho) rfl hl.1 rfl (Nat.le_of_ble_eq_true rfl) dX4_checksum_301 ⟨Nat.le_of_ble_eq_true rfl, Nat.le_of_ble_eq_true rfl⟩ (fun w H locs hH h => ?_)
              refine W.widen (k := 0) (n := 0) (Nat.le_of_ble_eq_true rfl) (Nat.le_of_ble_eq_true rfl) ?_
              exact b304 _ _ _ _ _ _ h _ _ _ hH (lv_sub hl [1, 2, 3, 4, 5] rfl)
      refine lv_iload_n hx hb dX4_checksum_248 rfl (lv_at hl 1 rfl) ?_
      refine lv_iconst (v := 3) hx hb dX4_checksum_249 (by decide) ?_
      refine lv_icmp_ge hx hb dX4_checksum_250 (tgt := 316) (by decide) (fun c_1 => ?_) (fun c_1 => ?_)
      · have h := h.1 c_1
        refine lv_iconst (v := 0) hx hb dX4_checksum_316 (by decide) ?_
        refine lv_istore_n hx hb dX4_checksum_317 rfl hl (by decide) (lv' := [(1, .int (0 : Int32)), (0, va_rf (some a0))]) rfl (fun ls hl => ?_)
        obtain ⟨n9, h⟩ := h
        refine W.widen (k := 0) (n := 0) (Nat.le_of_ble_eq_true rfl) (Nat.le_of_ble_eq_true rfl) ?_
        exact L318 n9 _ _ _ h _ _ _ hH (lv_sub hl [1, 0] rfl)
      · have h := h.2 c_1
        refine hx_aload_n C0 dX4_checksum_253 rfl (lv_at hl 0 rfl) ?_
        refine hx_aload_n C0 dX4_checksum_254 rfl (lv_at hl 0 rfl) ?_
        refine hx_gR C0 hU hH (ci := 3) rfl in_X4 6 (by decide) q1077 (fun _ h9 => h9) h dX4_checksum_255 (fun r_2 h => ?_)
        refine lv_iload_n hx hb dX4_checksum_258 rfl (lv_at hl 1 rfl) ?_
        obtain ⟨b_3, rfl, h9⟩ := h
        have h := h9
        clear h9
        refine hx_aI C0 hU hH h dX4_checksum_259 (fun i_4 h => ?_)
        refine lv_i2l hx hb dX4_checksum_260 rfl ?_
        obtain ⟨ho, h⟩ := h
        refine hx_Vv C0 hU hH (As := [.long (i_4.toInt64)]) (wk_X4_add l h) (cwV 1 hts (lw_V q1476 q1478 qs58 q71 q1479) rfl rfl rfl (by decide +kernel) ⟨Nat.le_of_ble_eq_true rfl, Nat.le_of_ble_eq_true rfl⟩) (hx_recv hU hH (ci := 3) rfl ho) rfl hl.1 rfl (Nat.le_of_ble_eq_true rfl) dX4_checksum_261 ⟨Nat.le_of_ble_eq_true rfl, Nat.le_of_ble_eq_true rfl⟩ (fun w H locs hH h => ?_)
        refine hx_aload_n C0 dX4_checksum_264 rfl (lv_at hl 0 rfl) ?_
        refine hx_gR C0 hU hH (ci := 3) rfl in_X4 25 (by decide) q1096 (fun _ h9 => h9) h dX4_checksum_265 (fun r_5 h => ?_)
        refine hx_astore_n C0 dX4_checksum_268 rfl hl (by decide) (lv' := [(2, va_rf r_5), (0, va_rf (some a0)), (1, .int x1)]) rfl (fun ls hl => ?_)
        refine hx_aload_n C0 dX4_checksum_269 rfl (lv_at hl 0 rfl) ?_
        obtain ⟨b_6, rfl, h9⟩ := h
        have h := h9
        clear h9
        refine hx_aN C0 hU hH h dX4_checksum_270 (fun i_7 h => ?_)
        refine lv_istore_n hx hb dX4_checksum_271 rfl hl (by decide) (lv' := [(3, .int i_7), (2, va_rf (some b_6)), (0, va_rf (some a0)), (1, .int x1)]) rfl (fun ls hl => ?_)
        refine lv_iconst (v := 0) hx hb dX4_checksum_272 (by decide) ?_
        refine lv_istore hx hb dX4_checksum_273 hl (by decide) (lv' := [(4, .int (0 : Int32)), (3, .int i_7), (2, va_rf (some b_6)), (0, va_rf (some a0)), (1, .int x1)]) rfl (fun ls hl => ?_)
        obtain ⟨n9, h⟩ := h
        refine W.widen (k := 0) (n := 0) (Nat.le_of_ble_eq_true rfl) (Nat.le_of_ble_eq_true rfl) ?_
        exact L275 n9 _ _ _ _ _ _ h _ _ _ hH (lv_sub hl [3, 4, 2, 1, 0] rfl)
  have L71 : ∀ (n71 : Nat) (w : Hp) (a0 : Nat) (x1 : Int32), lpN (wp_X4_checksum_l71 K ) n71 (w, a0, x1) → ∀ (H : Heap) (locs : List Loc) (ls : Array Slot), hx_H G w s H locs → lv_has ls 6 [(0, va_rf (some a0)), (1, .int x1)] → W p l e (headSpec (ws9_X4_checksum) rm_X4_checksum).room s m args below meth c H locs (0) (0) (Q9_X4_checksum below args s G K) (F0 m 71 ls []) := by
    intro n71
    induction n71 with
    | zero => intro w a0 x1 h; exact h.elim
    | succ n71 ih71 =>
      intro w a0 x1 h H locs ls hH hl
      have h : wp_X4_checksum_s71 K  (fun w a0 x1 => lpN (wp_X4_checksum_l71 K ) n71 (w, a0, x1)) w a0 x1 := h
      have L78 : ∀ (n78 : Nat) (w : Hp) (a0 : Nat) (x1 : Int32) (x2 : Int32), lpN (wp_X4_checksum_l78 K (fun w a0 x1 => lpN (wp_X4_checksum_l71 K ) n71 (w, a0, x1))) n78 (w, a0, x1, x2) → ∀ (H : Heap) (locs : List Loc) (ls : Array Slot), hx_H G w s H locs → lv_has ls 6 [(0, va_rf (some a0)), (1, .int x1), (2, .int x2)] → W p l e (headSpec (ws9_X4_checksum) rm_X4_checksum).room s m args below meth c H locs (0) (0) (Q9_X4_checksum below args s G K) (F0 m 78 ls []) := by
        intro n78
        induction n78 with
        | zero => intro w a0 x1 x2 h; exact h.elim
        | succ n78 ih78 =>
          intro w a0 x1 x2 h H locs ls hH hl
          have h : wp_X4_checksum_s78 K (fun w a0 x1 => lpN (wp_X4_checksum_l71 K ) n71 (w, a0, x1)) (fun w a0 x1 x2 => lpN (wp_X4_checksum_l78 K (fun w a0 x1 => lpN (wp_X4_checksum_l71 K ) n71 (w, a0, x1))) n78 (w, a0, x1, x2)) w a0 x1 x2 := h
          have b234 : ∀ (w : Hp) (a0 : Nat) (x1 : Int32) (x2 : Int32), wp_X4_checksum_b234 K (fun w a0 x1 => lpN (wp_X4_checksum_l71 K ) n71 (w, a0, x1)) (fun w a0 x1 x2 => lpN (wp_X4_checksum_l78 K (fun w a0 x1 => lpN (wp_X4_checksum_l71 K ) n71 (w, a0, x1))) n78 (w, a0, x1, x2)) w a0 x1 x2 → ∀ (H : Heap) (locs : List Loc) (ls : Array Slot), hx_H G w s H locs → lv_has ls 6 [(0, va_rf (some a0)), (1, .int x1), (2, .int x2)] → W p l e (headSpec (ws9_X4_checksum) rm_X4_checksum).room s m args below meth c H locs (0) (0) (Q9_X4_checksum below args s G K) (F0 m 234 ls []) := by
            intro w a0 x1 x2 h H locs ls hH hl
            obtain ⟨i_1, ei_1⟩ : ∃ z, z = x2 + 1 := ⟨_, rfl⟩
            have h := h i_1 ei_1
            refine lv_iinc (k := 2) hx hb dX4_checksum_234 hl rfl (v := i_1) (by rw [ei_1]; rfl) (by decide) (lv' := [(2, .int i_1), (0, va_rf (some a0)), (1, .int x1)]) rfl (fun ls hl => ?_)
            refine lv_goto hx hb dX4_checksum_237 (tgt := 78) (by decide) ?_
            refine W.widen (k := 0) (n := 0) (Nat.le_of_ble_eq_true rfl) (Nat.le_of_ble_eq_true rfl) ?_
            exact ih78 _ _ _ _ h _ _ _ hH (lv_sub hl [1, 2, 0] rfl)
          have L145 : ∀ (n145 : Nat) (w : Hp) (a0 : Nat) (x1 : Int32) (x2 : Int32) (x3 : Int32), lpN (wp_X4_checksum_l145 K (fun w a0 x1 => lpN (wp_X4_checksum_l71 K ) n71 (w, a0, x1)) (fun w a0 x1 x2 => lpN (wp_X4_checksum_l78 K (fun w a0 x1 => lpN (wp_X4_checksum_l71 K ) n71 (w, a0, x1))) n78 (w, a0, x1, x2))) n145 (w, a0, x1, x2, x3) → ∀ (H : Heap) (locs : List Loc) (ls : Array Slot), hx_H G w s H locs → lv_has ls 6 [(0, va_rf (some a0)), (1, .int x1), (2, .int x2), (3, .int x3)] → W p l e (headSpec (ws9_X4_checksum) rm_X4_checksum).room s m args below meth c H locs (0) (0) (Q9_X4_checksum below args s G K) (F0 m 145 ls []) := by
            intro n145
            induction n145 with
            | zero => intro w a0 x1 x2 x3 h; exact h.elim
            | succ n145 ih145 =>
              intro w a0 x1 x2 x3 h H locs ls hH hl
              have h : wp_X4_checksum_s145 K (fun w a0 x1 => lpN (wp_X4_checksum_l71 K ) n71 (w, a0, x1)) (fun w a0 x1 x2 => lpN (wp_X4_checksum_l78 K (fun w a0 x1 => lpN (wp_X4_checksum_l71 K ) n71 (w, a0, x1))) n78 (w, a0, x1, x2)) (fun w a0 x1 x2 x3 => lpN (wp_X4_checksum_l145 K (fun w a0 x1 => lpN (wp_X4_checksum_l71 K ) n71 (w, a0, x1)) (fun w a0 x1 x2 => lpN (wp_X4_checksum_l78 K (fun w a0 x1 => lpN (wp_X4_checksum_l71 K ) n71 (w, a0, x1))) n78 (w, a0, x1, x2))) n145 (w, a0, x1, x2, x3)) w a0 x1 x2 x3 := h
              have b228 : ∀ (w : Hp) (a0 : Nat) (x1 : Int32) (x2 : Int32) (x3 : Int32), wp_X4_checksum_b228 K (fun w a0 x1 => lpN (wp_X4_checksum_l71 K ) n71 (w, a0, x1)) (fun w a0 x1 x2 => lpN (wp_X4_checksum_l78 K (fun w a0 x1 => lpN (wp_X4_checksum_l71 K ) n71 (w, a0, x1))) n78 (w, a0, x1, x2)) (fun w a0 x1 x2 x3 => lpN (wp_X4_checksum_l145 K (fun w a0 x1 => lpN (wp_X4_checksum_l71 K ) n71 (w, a0, x1)) (fun w a0 x1 x2 => lpN (wp_X4_checksum_l78 K (fun w a0 x1 => lpN (wp_X4_checksum_l71 K ) n71 (w, a0, x1))) n78 (w, a0, x1, x2))) n145 (w, a0, x1, x2, x3)) w a0 x1 x2 x3 → ∀ (H : Heap) (locs : List Loc) (ls : Array Slot), hx_H G w s H locs → lv_has ls 6 [(0, va_rf (some a0)), (1, .int x1), (2, .int x2), (3, .int x3)] → W p l e (headSpec (ws9_X4_checksum) rm_X4_checksum).room s m args below meth c H locs (0) (0) (Q9_X4_checksum below args s G K) (F0 m 228 ls []) := by
                intro w a0 x1 x2 x3 h H locs ls hH hl
                obtain ⟨i_1, ei_1⟩ : ∃ z, z = x3 + 1 := ⟨_, rfl⟩
                have h := h i_1 ei_1
                refine lv_iinc (k := 3) hx hb dX4_checksum_228 hl rfl (v := i_1) (by rw [ei_1]; rfl) (by decide) (lv' := [(3, .int i_1), (0, va_rf (some a0)), (1, .int x1), (2, .int x2)]) rfl (fun ls hl => ?_)
                refine lv_goto hx hb dX4_checksum_231 (tgt := 145) (by decide) ?_
                refine W.widen (k := 0) (n := 0) (Nat.le_of_ble_eq_true rfl) (Nat.le_of_ble_eq_true rfl) ?_
                exact ih145 _ _ _ _ _ h _ _ _ hH (lv_sub hl [1, 2, 3, 0] rfl)
              have b184 : ∀ (w : Hp) (a0 : Nat) (x1 : Int32) (x2 : Int32) (x3 : Int32) (r4 : Option Nat) (t0 : Int64) (at1 : Nat), wp_X4_checksum_b184 K (fun w a0 x1 => lpN (wp_X4_checksum_l71 K ) n71 (w, a0, x1)) (fun w a0 x1 x2 => lpN (wp_X4_checksum_l78 K (fun w a0 x1 => lpN (wp_X4_checksum_l71 K ) n71 (w, a0, x1))) n78 (w, a0, x1, x2)) (fun w a0 x1 x2 x3 => lpN (wp_X4_checksum_l145 K (fun w a0 x1 => lpN (wp_X4_checksum_l71 K ) n71 (w, a0, x1)) (fun w a0 x1 x2 => lpN (wp_X4_checksum_l78 K (fun w a0 x1 => lpN (wp_X4_checksum_l71 K ) n71 (w, a0, x1))) n78 (w, a0, x1, x2))) n145 (w, a0, x1, x2, x3)) w a0 x1 x2 x3 r4 t0 at1 → ∀ (H : Heap) (locs : List Loc) (ls : Array Slot), hx_H G w s H locs → lv_has ls 6 [(0, va_rf (some a0)), (1, .int x1), (2, .int x2), (3, .int x3), (4, va_rf r4)] → W p l e (headSpec (ws9_X4_checksum) rm_X4_checksum).room s m args below meth c H locs (0) (0) (Q9_X4_checksum below args s G K) (F0 m 184 ls [.long t0, va_rf (some at1)]) := by
                intro w a0 x1 x2 x3 r4 t0 at1 h H locs ls hH hl
                obtain ⟨ho, h⟩ := h
                refine hx_Vv C0 hU hH (As := [.long t0]) (wk_X4_add l h) (cwV 1 hts (lw_V q1476 q1478 qs58 q71 q1479) rfl rfl rfl (by decide +kernel) ⟨Nat.le_of_ble_eq_true rfl, Nat.le_of_ble_eq_true rfl⟩) (hx_recv hU hH (ci := 3) rfl ho) rfl hl.1 rfl (Nat.le_of_ble_eq_true rfl) dX4_checksum_184 ⟨Nat.le_of_ble_eq_true rfl, Nat.le_of_ble_eq_true rfl⟩ (fun w H locs hH h => ?_)
                refine hx_aload_n C0 dX4_checksum_187 rfl (lv_at hl 0 rfl) ?_
                refine lv_iload_n hx hb dX4_checksum_188 rfl (lv_at hl 1 rfl) ?_
                refine lv_iload_n hx hb dX4_checksum_189 rfl (lv_at hl 2 rfl) ?_
                refine lv_iload_n hx hb dX4_checksum_190 rfl (lv_at hl 3 rfl) ?_
                obtain ⟨ho, h⟩ := h
                refine hx_Vi C0 hU hH (As := [.int x1, .int x2, .int x3]) (wk_X4_isThere l h) (cwV 3 hts (lw_V q1216 q1218 qs38 q71 q1219) rfl rfl rfl (by decide +kernel) ⟨Nat.le_of_ble_eq_true rfl, Nat.le_of_ble_eq_true rfl⟩) (hx_recv hU hH (ci := 3) rfl ho) rfl hl.1 rfl (Nat.le_of_ble_eq_true rfl) dX4_checksum_191 ⟨Nat.le_of_ble_eq_true rfl, Nat.le_of_ble_eq_true rfl⟩ (fun i_1 w H locs hH h => ?_)
                refine lv_if_ne hx hb dX4_checksum_194 (tgt := 200) (by decide) (fun c_2 => ?_) (fun c_2 => ?_)
                · have h := h.2 c_2
                  refine hx_aload_n C0 dX4_checksum_200 rfl (lv_at hl 0 rfl) ?_
                  refine hx_aload C0 dX4_checksum_201 (lv_at hl 4 rfl) ?_
                  refine lv_iconst (v := 3) hx hb dX4_checksum_203 (by decide) ?_
                  obtain ⟨b_3, rfl, h9⟩ := h
                  have h := h9
                  clear h9
                  refine hx_aI C0 hU hH h dX4_checksum_204 (fun i_4 h => ?_)
                  refine lv_i2l hx hb dX4_checksum_205 rfl ?_
                  obtain ⟨ho, h⟩ := h
                  refine hx_Vv C0 hU hH (As := [.long (i_4.toInt64)]) (wk_X4_add l h) (cwV 1 hts (lw_V q1476 q1478 qs58 q71 q1479) rfl rfl rfl (by decide +kernel) ⟨Nat.le_of_ble_eq_true rfl, Nat.le_of_ble_eq_true rfl⟩) (hx_recv hU hH (ci := 3) rfl ho) rfl hl.1 rfl (Nat.le_of_ble_eq_true rfl) dX4_checksum_206 ⟨Nat.le_of_ble_eq_true rfl, Nat.le_of_ble_eq_true rfl⟩ (fun w H locs hH h => ?_)
                  refine hx_aload_n C0 dX4_checksum_209 rfl (lv_at hl 0 rfl) ?_
                  refine hx_aload C0 dX4_checksum_210 (lv_at hl 4 rfl) ?_
                  refine lv_iconst (v := 5) hx hb dX4_checksum_212 (by decide) ?_
                  refine hx_aI C0 hU hH h dX4_checksum_213 (fun i_5 h => ?_)
                  refine lv_i2l hx hb dX4_checksum_214 rfl ?_
                  obtain ⟨ho, h⟩ := h
                  refine hx_Vv C0 hU hH (As := [.long (i_5.toInt64)]) (wk_X4_add l h) (cwV 1 hts (lw_V q1476 q1478 qs58 q71 q1479) rfl rfl rfl (by decide +kernel) ⟨Nat.le_of_ble_eq_true rfl, Nat.le_of_ble_eq_true rfl⟩) (hx_recv hU hH (ci := 3) rfl ho) rfl hl.1 rfl (Nat.le_of_ble_eq_true rfl) dX4_checksum_215 ⟨Nat.le_of_ble_eq_true rfl, Nat.le_of_ble_eq_true rfl⟩ (fun w H locs hH h => ?_)
                  refine hx_aload_n C0 dX4_checksum_218 rfl (lv_at hl 0 rfl) ?_
                  refine hx_aload C0 dX4_checksum_219 (lv_at hl 4 rfl) ?_
                  refine lv_bipush (v := 8) hx hb dX4_checksum_221 (by decide) ?_
                  refine hx_aI C0 hU hH h dX4_checksum_223 (fun i_6 h => ?_)
                  refine lv_i2l hx hb dX4_checksum_224 rfl ?_
                  obtain ⟨ho, h⟩ := h
                  refine hx_Vv C0 hU hH (As := [.long (i_6.toInt64)]) (wk_X4_add l h) (cwV 1 hts (lw_V q1476 q1478 qs58 q71 q1479) rfl rfl rfl (by decide +kernel) ⟨Nat.le_of_ble_eq_true rfl, Nat.le_of_ble_eq_true rfl⟩) (hx_recv hU hH (ci := 3) rfl ho) rfl hl.1 rfl (Nat.le_of_ble_eq_true rfl) dX4_checksum_225 ⟨Nat.le_of_ble_eq_true rfl, Nat.le_of_ble_eq_true rfl⟩ (fun w H locs hH h => ?_)
                  refine W.widen (k := 0) (n := 0) (Nat.le_of_ble_eq_true rfl) (Nat.le_of_ble_eq_true rfl) ?_
                  exact b228 _ _ _ _ _ h _ _ _ hH (lv_sub hl [0, 1, 2, 3] rfl)
                · have h := h.1 c_2
                  refine lv_goto hx hb dX4_checksum_197 (tgt := 228) (by decide) ?_
                  refine W.widen (k := 0) (n := 0) (Nat.le_of_ble_eq_true rfl) (Nat.le_of_ble_eq_true rfl) ?_
                  exact b228 _ _ _ _ _ h _ _ _ hH (lv_sub hl [0, 1, 2, 3] rfl)
              refine lv_iload_n hx hb dX4_checksum_145 rfl (lv_at hl 3 rfl) ?_
              refine lv_iconst (v := 3) hx hb dX4_checksum_146 (by decide) ?_
              refine lv_icmp_ge hx hb dX4_checksum_147 (tgt := 234) (by decide) (fun c_1 => ?_) (fun c_1 => ?_)
              · have h := h.1 c_1
                refine W.widen (k := 0) (n := 0) (Nat.le_of_ble_eq_true rfl) (Nat.le_of_ble_eq_true rfl) ?_
                exact b234 _ _ _ _ h _ _ _ hH (lv_sub hl [0, 1, 2] rfl)
              · have h := h.2 c_1
                refine hx_aload_n C0 dX4_checksum_150 rfl (lv_at hl 0 rfl) ?_
                refine hx_gR C0 hU hH (ci := 3) rfl in_X4 21 (by decide) q1092 (fun _ h9 => h9) h dX4_checksum_151 (fun r_2 h => ?_)
                refine lv_iload_n hx hb dX4_checksum_154 rfl (lv_at hl 1 rfl) ?_
                obtain ⟨b_3, rfl, h9⟩ := h
                have h := h9
                clear h9
                refine hx_aR C0 hU hH h dX4_checksum_155 (fun r_4 h => ?_)
                refine lv_iload_n hx hb dX4_checksum_156 rfl (lv_at hl 2 rfl) ?_
                obtain ⟨b_5, rfl, h9⟩ := h
                have h := h9
                clear h9
                refine hx_aR C0 hU hH h dX4_checksum_157 (fun r_6 h => ?_)
                refine lv_iload_n hx hb dX4_checksum_158 rfl (lv_at hl 3 rfl) ?_
                obtain ⟨b_7, rfl, h9⟩ := h
                have h := h9
                clear h9
                refine hx_aR C0 hU hH h dX4_checksum_159 (fun r_8 h => ?_)
                refine hx_astore C0 dX4_checksum_160 hl (by decide) (lv' := [(4, va_rf r_8), (0, va_rf (some a0)), (1, .int x1), (2, .int x2), (3, .int x3)]) rfl (fun ls hl => ?_)
                refine hx_aload_n C0 dX4_checksum_162 rfl (lv_at hl 1 rfl) ?_
                refine hx_aload_n C0 dX4_checksum_163 rfl (lv_at hl 1 rfl) ?_
                refine lv_iload_n hx hb dX4_checksum_164 rfl (lv_at hl 2 rfl) ?_
                refine lv_iload_n hx hb dX4_checksum_165 rfl (lv_at hl 3 rfl) ?_
                refine lv_iload_n hx hb dX4_checksum_166 rfl (lv_at hl 4 rfl) ?_
                obtain ⟨ho, h⟩ := h
                refine hx_Vi C0 hU hH (As := [.int x1, .int x2, .int x3]) (wk_X4_isThere l h) (cwV 3 hts (lw_V q1216 q1218 qs38 q71 q1219) rfl rfl rfl (by decide +kernel) ⟨Nat.le_of_ble_eq_true rfl, Nat.le_of_ble_eq_true rfl⟩) (hx_recv hU hH (ci := 3) rfl ho) rfl hl.1 rfl (Nat.le_of_ble_eq_true rfl) dX4_checksum_167 ⟨Nat.le_of_ble_eq_true rfl, Nat.le_of_ble_eq_true rfl⟩ (fun i_9 w H locs hH h => ?_)
                refine lv_if_eq hx hb dX4_checksum_170 (tgt := 181) (by decide) (fun c_10 => ?_) (fun c_10 => ?_)
                · have h := h.1 c_10
                  refine lv_ldc2 (v := -1) hx hb C0.2.2.2.1 (hts _ q1459) dX4_checksum_181 ?_
                  refine W.widen (k := 0) (n := 0) (Nat.le_of_ble_eq_true rfl) (Nat.le_of_ble_eq_true rfl) ?_
                  exact b184 _ _ _ _ _ _ _ _ h _ _ _ hH (lv_sub hl [1, 2, 3, 4, 0] rfl)
                · have h := h.2 c_10
                  refine hx_aload C0 dX4_checksum_173 (lv_at hl 0 rfl) ?_
                  refine lv_iconst (v := 0) hx hb dX4_checksum_175 (by decide) ?_
                  obtain ⟨b_11, rfl, h9⟩ := h
                  have h := h9
                  clear h9
                  refine hx_aI C0 hU hH h dX4_checksum_176 (fun i_12 h => ?_)
                  refine lv_i2l hx hb dX4_checksum_177 rfl ?_
                  refine lv_goto hx hb dX4_checksum_178 (tgt := 184) (by decide) ?_
                  refine W.widen (k := 0) (n := 0) (Nat.le_of_ble_eq_true rfl) (Nat.le_of_ble_eq_true rfl) ?_
                  exact b184 _ _ _ _ _ _ _ _ h _ _ _ hH (lv_sub hl [1, 2, 3, 4, 0] rfl)
          refine lv_iload_n hx hb dX4_checksum_78 rfl (lv_at hl 2 rfl) ?_
          refine lv_iconst (v := 3) hx hb dX4_checksum_79 (by decide) ?_
          refine lv_icmp_ge hx hb dX4_checksum_80 (tgt := 240) (by decide) (fun c_1 => ?_) (fun c_1 => ?_)
          · have h := h.1 c_1
            obtain ⟨i_2, ei_2⟩ : ∃ z, z = x1 + 1 := ⟨_, rfl⟩
            have h := h i_2 ei_2
            refine lv_iinc (k := 1) hx hb dX4_checksum_240 hl rfl (v := i_2) (by rw [ei_2]; rfl) (by decide) (lv' := [(1, .int i_2), (0, va_rf (some a0)), (2, .int x2)]) rfl (fun ls hl => ?_)
            refine lv_goto hx hb dX4_checksum_243 (tgt := 71) (by decide) ?_
            refine W.widen (k := 0) (n := 0) (Nat.le_of_ble_eq_true rfl) (Nat.le_of_ble_eq_true rfl) ?_
            exact ih71 _ _ _ h _ _ _ hH (lv_sub hl [1, 0] rfl)
          · have h := h.2 c_1
            refine lv_iload_n hx hb dX4_checksum_83 rfl (lv_at hl 2 rfl) ?_
            refine lv_iload_n hx hb dX4_checksum_84 rfl (lv_at hl 1 rfl) ?_
            refine lv_icmp_ne hx hb dX4_checksum_85 (tgt := 91) (by decide) (fun c_3 => ?_) (fun c_3 => ?_)
            · have h := h.2 c_3
              refine hx_aload_n C0 dX4_checksum_91 rfl (lv_at hl 0 rfl) ?_
              refine hx_aload_n C0 dX4_checksum_92 rfl (lv_at hl 0 rfl) ?_
              refine hx_gR C0 hU hH (ci := 3) rfl in_X4 10 (by decide) q1081 (fun _ h9 => h9) h dX4_checksum_93 (fun r_4 h => ?_)
              refine lv_iload_n hx hb dX4_checksum_96 rfl (lv_at hl 1 rfl) ?_
              obtain ⟨b_5, rfl, h9⟩ := h
              have h := h9
              clear h9
              refine hx_aR C0 hU hH h dX4_checksum_97 (fun r_6 h => ?_)
              refine lv_iload_n hx hb dX4_checksum_98 rfl (lv_at hl 2 rfl) ?_
              obtain ⟨b_7, rfl, h9⟩ := h
              have h := h9
              clear h9
              refine hx_aI C0 hU hH h dX4_checksum_99 (fun i_8 h => ?_)
              refine lv_i2l hx hb dX4_checksum_100 rfl ?_
              obtain ⟨ho, h⟩ := h
              refine hx_Vv C0 hU hH (As := [.long (i_8.toInt64)]) (wk_X4_add l h) (cwV 1 hts (lw_V q1476 q1478 qs58 q71 q1479) rfl rfl rfl (by decide +kernel) ⟨Nat.le_of_ble_eq_true rfl, Nat.le_of_ble_eq_true rfl⟩) (hx_recv hU hH (ci := 3) rfl ho) rfl hl.1 rfl (Nat.le_of_ble_eq_true rfl) dX4_checksum_101 ⟨Nat.le_of_ble_eq_true rfl, Nat.le_of_ble_eq_true rfl⟩ (fun w H locs hH h => ?_)
              refine hx_aload_n C0 dX4_checksum_104 rfl (lv_at hl 0 rfl) ?_
              refine hx_aload_n C0 dX4_checksum_105 rfl (lv_at hl 0 rfl) ?_
              refine hx_gR C0 hU hH (ci := 3) rfl in_X4 13 (by decide) q1084 (fun _ h9 => h9) h dX4_checksum_106 (fun r_9 h => ?_)
              refine lv_iload_n hx hb dX4_checksum_109 rfl (lv_at hl 1 rfl) ?_
              obtain ⟨b_10, rfl, h9⟩ := h
              have h := h9
              clear h9
              refine hx_aR C0 hU hH h dX4_checksum_110 (fun r_11 h => ?_)
              refine lv_iload_n hx hb dX4_checksum_111 rfl (lv_at hl 2 rfl) ?_
              obtain ⟨b_12, rfl, h9⟩ := h
              have h := h9
              clear h9
              refine hx_aI C0 hU hH h dX4_checksum_112 (fun i_13 h => ?_)
              refine lv_i2l hx hb dX4_checksum_113 rfl ?_
              obtain ⟨ho, h⟩ := h
              refine hx_Vv C0 hU hH (As := [.long (i_13.toInt64)]) (wk_X4_add l h) (cwV 1 hts (lw_V q1476 q1478 qs58 q71 q1479) rfl rfl rfl (by decide +kernel) ⟨Nat.le_of_ble_eq_true rfl, Nat.le_of_ble_eq_true rfl⟩) (hx_recv hU hH (ci := 3) rfl ho) rfl hl.1 rfl (Nat.le_of_ble_eq_true rfl) dX4_checksum_114 ⟨Nat.le_of_ble_eq_true rfl, Nat.le_of_ble_eq_true rfl⟩ (fun w H locs hH h => ?_)
              refine hx_aload_n C0 dX4_checksum_117 rfl (lv_at hl 0 rfl) ?_
              refine hx_aload_n C0 dX4_checksum_118 rfl (lv_at hl 0 rfl) ?_
              refine hx_gR C0 hU hH (ci := 3) rfl in_X4 11 (by decide) q1082 (fun _ h9 => h9) h dX4_checksum_119 (fun r_14 h => ?_)
              refine lv_iload_n hx hb dX4_checksum_122 rfl (lv_at hl 1 rfl) ?_
              obtain ⟨b_15, rfl, h9⟩ := h
              have h := h9
              clear h9
              refine hx_aR C0 hU hH h dX4_checksum_123 (fun r_16 h => ?_)
              refine lv_iload_n hx hb dX4_checksum_124 rfl (lv_at hl 2 rfl) ?_
              obtain ⟨b_17, rfl, h9⟩ := h
              have h := h9
              clear h9
              refine hx_aI C0 hU hH h dX4_checksum_125 (fun i_18 h => ?_)
              refine lv_i2l hx hb dX4_checksum_126 rfl ?_
              obtain ⟨ho, h⟩ := h
              refine hx_Vv C0 hU hH (As := [.long (i_18.toInt64)]) (wk_X4_add l h) (cwV 1 hts (lw_V q1476 q1478 qs58 q71 q1479) rfl rfl rfl (by decide +kernel) ⟨Nat.le_of_ble_eq_true rfl, Nat.le_of_ble_eq_true rfl⟩) (hx_recv hU hH (ci := 3) rfl ho) rfl hl.1 rfl (Nat.le_of_ble_eq_true rfl) dX4_checksum_127 ⟨Nat.le_of_ble_eq_true rfl, Nat.le_of_ble_eq_true rfl⟩ (fun w H locs hH h => ?_)
              refine hx_aload_n C0 dX4_checksum_130 rfl (lv_at hl 0 rfl) ?_
              refine hx_aload_n C0 dX4_checksum_131 rfl (lv_at hl 0 rfl) ?_
              refine hx_gR C0 hU hH (ci := 3) rfl in_X4 19 (by decide) q1090 (fun _ h9 => h9) h dX4_checksum_132 (fun r_19 h => ?_)
              refine lv_iload_n hx hb dX4_checksum_135 rfl (lv_at hl 1 rfl) ?_
              obtain ⟨b_20, rfl, h9⟩ := h
              have h := h9
              clear h9
              refine hx_aR C0 hU hH h dX4_checksum_136 (fun r_21 h => ?_)
              refine lv_iload_n hx hb dX4_checksum_137 rfl (lv_at hl 2 rfl) ?_
              obtain ⟨b_22, rfl, h9⟩ := h
              have h := h9
              clear h9
              refine hx_aI C0 hU hH h dX4_checksum_138 (fun i_23 h => ?_)
              refine lv_i2l hx hb dX4_checksum_139 rfl ?_
              obtain ⟨ho, h⟩ := h
              refine hx_Vv C0 hU hH (As := [.long (i_23.toInt64)]) (wk_X4_add l h) (cwV 1 hts (lw_V q1476 q1478 qs58 q71 q1479) rfl rfl rfl (by decide +kernel) ⟨Nat.le_of_ble_eq_true rfl, Nat.le_of_ble_eq_true rfl⟩) (hx_recv hU hH (ci := 3) rfl ho) rfl hl.1 rfl (Nat.le_of_ble_eq_true rfl) dX4_checksum_140 ⟨Nat.le_of_ble_eq_true rfl, Nat.le_of_ble_eq_true rfl⟩ (fun w H locs hH h => ?_)
              refine lv_iconst (v := 0) hx hb dX4_checksum_143 (by decide) ?_
              refine lv_istore_n hx hb dX4_checksum_144 rfl hl (by decide) (lv' := [(3, .int (0 : Int32)), (0, va_rf (some a0)), (1, .int x1), (2, .int x2)]) rfl (fun ls hl => ?_)
              obtain ⟨n9, h⟩ := h
              refine W.widen (k := 0) (n := 0) (Nat.le_of_ble_eq_true rfl) (Nat.le_of_ble_eq_true rfl) ?_
              exact L145 n9 _ _ _ _ _ h _ _ _ hH (lv_sub hl [1, 2, 3, 0] rfl)
            · have h := h.1 c_3
              refine lv_goto hx hb dX4_checksum_88 (tgt := 234) (by decide) ?_
              refine W.widen (k := 0) (n := 0) (Nat.le_of_ble_eq_true rfl) (Nat.le_of_ble_eq_true rfl) ?_
              exact b234 _ _ _ _ h _ _ _ hH (lv_sub hl [0, 1, 2] rfl)
      refine lv_iload_n hx hb dX4_checksum_71 rfl (lv_at hl 1 rfl) ?_
      refine lv_iconst (v := 3) hx hb dX4_checksum_72 (by decide) ?_
      refine lv_icmp_ge hx hb dX4_checksum_73 (tgt := 246) (by decide) (fun c_1 => ?_) (fun c_1 => ?_)
      · have h := h.1 c_1
        refine lv_iconst (v := 0) hx hb dX4_checksum_246 (by decide) ?_
        refine lv_istore_n hx hb dX4_checksum_247 rfl hl (by decide) (lv' := [(1, .int (0 : Int32)), (0, va_rf (some a0))]) rfl (fun ls hl => ?_)
        obtain ⟨n9, h⟩ := h
        refine W.widen (k := 0) (n := 0) (Nat.le_of_ble_eq_true rfl) (Nat.le_of_ble_eq_true rfl) ?_
        exact L248 n9 _ _ _ h _ _ _ hH (lv_sub hl [1, 0] rfl)
      · have h := h.2 c_1
        refine lv_iconst (v := 0) hx hb dX4_checksum_76 (by decide) ?_
        refine lv_istore_n hx hb dX4_checksum_77 rfl hl (by decide) (lv' := [(2, .int (0 : Int32)), (0, va_rf (some a0)), (1, .int x1)]) rfl (fun ls hl => ?_)
        obtain ⟨n9, h⟩ := h
        refine W.widen (k := 0) (n := 0) (Nat.le_of_ble_eq_true rfl) (Nat.le_of_ble_eq_true rfl) ?_
        exact L78 n9 _ _ _ _ h _ _ _ hH (lv_sub hl [1, 2, 0] rfl)
  have L18 : ∀ (n18 : Nat) (w : Hp) (a0 : Nat) (x1 : Int32), lpN (wp_X4_checksum_l18 K ) n18 (w, a0, x1) → ∀ (H : Heap) (locs : List Loc) (ls : Array Slot), hx_H G w s H locs → lv_has ls 6 [(0, va_rf (some a0)), (1, .int x1)] → W p l e (headSpec (ws9_X4_checksum) rm_X4_checksum).room s m args below meth c H locs (0) (0) (Q9_X4_checksum below args s G K) (F0 m 18 ls []) := by
    intro n18
    induction n18 with
    | zero => intro w a0 x1 h; exact h.elim
    | succ n18 ih18 =>
      intro w a0 x1 h H locs ls hH hl
      have h : wp_X4_checksum_s18 K  (fun w a0 x1 => lpN (wp_X4_checksum_l18 K ) n18 (w, a0, x1)) w a0 x1 := h
      have b49 : ∀ (w : Hp) (a0 : Nat) (x1 : Int32) (t0 : Int64) (at1 : Nat), wp_X4_checksum_b49 K (fun w a0 x1 => lpN (wp_X4_checksum_l18 K ) n18 (w, a0, x1)) w a0 x1 t0 at1 → ∀ (H : Heap) (locs : List Loc) (ls : Array Slot), hx_H G w s H locs → lv_has ls 6 [(0, va_rf (some a0)), (1, .int x1)] → W p l e (headSpec (ws9_X4_checksum) rm_X4_checksum).room s m args below meth c H locs (0) (0) (Q9_X4_checksum below args s G K) (F0 m 49 ls [.long t0, va_rf (some at1)]) := by
        intro w a0 x1 t0 at1 h H locs ls hH hl
        obtain ⟨ho, h⟩ := h
        refine hx_Vv C0 hU hH (As := [.long t0]) (wk_X4_add l h) (cwV 1 hts (lw_V q1476 q1478 qs58 q71 q1479) rfl rfl rfl (by decide +kernel) ⟨Nat.le_of_ble_eq_true rfl, Nat.le_of_ble_eq_true rfl⟩) (hx_recv hU hH (ci := 3) rfl ho) rfl hl.1 rfl (Nat.le_of_ble_eq_true rfl) dX4_checksum_49 ⟨Nat.le_of_ble_eq_true rfl, Nat.le_of_ble_eq_true rfl⟩ (fun w H locs hH h => ?_)
        refine hx_aload_n C0 dX4_checksum_52 rfl (lv_at hl 0 rfl) ?_
        refine hx_aload_n C0 dX4_checksum_53 rfl (lv_at hl 0 rfl) ?_
        refine hx_gR C0 hU hH (ci := 3) rfl in_X4 5 (by decide) q1076 (fun _ h9 => h9) h dX4_checksum_54 (fun r_1 h => ?_)
        refine lv_iload_n hx hb dX4_checksum_57 rfl (lv_at hl 1 rfl) ?_
        obtain ⟨b_2, rfl, h9⟩ := h
        have h := h9
        clear h9
        refine hx_aI C0 hU hH h dX4_checksum_58 (fun i_3 h => ?_)
        refine lv_i2l hx hb dX4_checksum_59 rfl ?_
        obtain ⟨ho, h⟩ := h
        refine hx_Vv C0 hU hH (As := [.long (i_3.toInt64)]) (wk_X4_add l h) (cwV 1 hts (lw_V q1476 q1478 qs58 q71 q1479) rfl rfl rfl (by decide +kernel) ⟨Nat.le_of_ble_eq_true rfl, Nat.le_of_ble_eq_true rfl⟩) (hx_recv hU hH (ci := 3) rfl ho) rfl hl.1 rfl (Nat.le_of_ble_eq_true rfl) dX4_checksum_60 ⟨Nat.le_of_ble_eq_true rfl, Nat.le_of_ble_eq_true rfl⟩ (fun w H locs hH h => ?_)
        obtain ⟨i_4, ei_4⟩ : ∃ z, z = x1 + 1 := ⟨_, rfl⟩
        have h := h i_4 ei_4
        refine lv_iinc (k := 1) hx hb dX4_checksum_63 hl rfl (v := i_4) (by rw [ei_4]; rfl) (by decide) (lv' := [(1, .int i_4), (0, va_rf (some a0))]) rfl (fun ls hl => ?_)
        refine lv_goto hx hb dX4_checksum_66 (tgt := 18) (by decide) ?_
        refine W.widen (k := 0) (n := 0) (Nat.le_of_ble_eq_true rfl) (Nat.le_of_ble_eq_true rfl) ?_
        exact ih18 _ _ _ h _ _ _ hH (lv_sub hl [1, 0] rfl)
      refine lv_iload_n hx hb dX4_checksum_18 rfl (lv_at hl 1 rfl) ?_
      refine lv_iconst (v := 3) hx hb dX4_checksum_19 (by decide) ?_
      refine lv_icmp_ge hx hb dX4_checksum_20 (tgt := 69) (by decide) (fun c_1 => ?_) (fun c_1 => ?_)
      · have h := h.1 c_1
        refine lv_iconst (v := 0) hx hb dX4_checksum_69 (by decide) ?_
        refine lv_istore_n hx hb dX4_checksum_70 rfl hl (by decide) (lv' := [(1, .int (0 : Int32)), (0, va_rf (some a0))]) rfl (fun ls hl => ?_)
        obtain ⟨n9, h⟩ := h
        refine W.widen (k := 0) (n := 0) (Nat.le_of_ble_eq_true rfl) (Nat.le_of_ble_eq_true rfl) ?_
        exact L71 n9 _ _ _ h _ _ _ hH (lv_sub hl [1, 0] rfl)
      · have h := h.2 c_1
        refine hx_aload_n C0 dX4_checksum_23 rfl (lv_at hl 0 rfl) ?_
        refine hx_aload_n C0 dX4_checksum_24 rfl (lv_at hl 0 rfl) ?_
        refine hx_gR C0 hU hH (ci := 3) rfl in_X4 4 (by decide) q1075 (fun _ h9 => h9) h dX4_checksum_25 (fun r_2 h => ?_)
        refine lv_iload_n hx hb dX4_checksum_28 rfl (lv_at hl 1 rfl) ?_
        obtain ⟨b_3, rfl, h9⟩ := h
        have h := h9
        clear h9
        refine hx_aI C0 hU hH h dX4_checksum_29 (fun i_4 h => ?_)
        refine lv_i2l hx hb dX4_checksum_30 rfl ?_
        obtain ⟨ho, h⟩ := h
        refine hx_Vv C0 hU hH (As := [.long (i_4.toInt64)]) (wk_X4_add l h) (cwV 1 hts (lw_V q1476 q1478 qs58 q71 q1479) rfl rfl rfl (by decide +kernel) ⟨Nat.le_of_ble_eq_true rfl, Nat.le_of_ble_eq_true rfl⟩) (hx_recv hU hH (ci := 3) rfl ho) rfl hl.1 rfl (Nat.le_of_ble_eq_true rfl) dX4_checksum_31 ⟨Nat.le_of_ble_eq_true rfl, Nat.le_of_ble_eq_true rfl⟩ (fun w H locs hH h => ?_)
        refine hx_aload_n C0 dX4_checksum_34 rfl (lv_at hl 0 rfl) ?_
        refine hx_aload_n C0 dX4_checksum_35 rfl (lv_at hl 0 rfl) ?_
        refine hx_gR C0 hU hH (ci := 3) rfl in_X4 8 (by decide) q1079 (fun _ h9 => h9) h dX4_checksum_36 (fun r_5 h => ?_)
        refine lv_iload_n hx hb dX4_checksum_39 rfl (lv_at hl 1 rfl) ?_
        obtain ⟨b_6, rfl, h9⟩ := h
        have h := h9
        clear h9
        refine hx_aZ C0 hU hH h dX4_checksum_40 (fun i_7 h => ?_)
        refine lv_if_eq hx hb dX4_checksum_41 (tgt := 48) (by decide) (fun c_8 => ?_) (fun c_8 => ?_)
        · have h := h.1 c_8
          refine lv_lconst (v := 0) hx hb dX4_checksum_48 (by decide) ?_
          refine W.widen (k := 0) (n := 0) (Nat.le_of_ble_eq_true rfl) (Nat.le_of_ble_eq_true rfl) ?_
          exact b49 _ _ _ _ _ h _ _ _ hH (lv_sub hl [0, 1] rfl)
        · have h := h.2 c_8
          refine lv_lconst (v := 1) hx hb dX4_checksum_44 (by decide) ?_
          refine lv_goto hx hb dX4_checksum_45 (tgt := 49) (by decide) ?_
          refine W.widen (k := 0) (n := 0) (Nat.le_of_ble_eq_true rfl) (Nat.le_of_ble_eq_true rfl) ?_
          exact b49 _ _ _ _ _ h _ _ _ hH (lv_sub hl [0, 1] rfl)
  refine hx_aload_n C0 dX4_checksum_0 rfl (lv_at hl 0 rfl) ?_
  refine lv_ldc2 (v := 31) hx hb C0.2.2.2.1 (hts _ q1277) dX4_checksum_1 ?_
  refine hx_pV C0 hU hH (ci := 3) rfl in_X4 tyX4 tyX4_ok nmX4 26 (by decide) q1097 (fun _ h9 => h9) (Or.inl rfl) rfl rfl h dX4_checksum_4 (fun w H locs hH h => ?_)
  refine hx_aload_n C0 dX4_checksum_7 rfl (lv_at hl 0 rfl) ?_
  refine hx_aload_n C0 dX4_checksum_8 rfl (lv_at hl 0 rfl) ?_
  refine hx_gI C0 hU hH (ci := 3) rfl in_X4 0 (by decide) q1071 (fun _ h9 => h9) h dX4_checksum_9 (fun i_1 h => ?_)
  refine lv_i2l hx hb dX4_checksum_12 rfl ?_
  obtain ⟨ho, h⟩ := h
  refine hx_Vv C0 hU hH (As := [.long (i_1.toInt64)]) (wk_X4_add l h) (cwV 1 hts (lw_V q1476 q1478 qs58 q71 q1479) rfl rfl rfl (by decide +kernel) ⟨Nat.le_of_ble_eq_true rfl, Nat.le_of_ble_eq_true rfl⟩) (hx_recv hU hH (ci := 3) rfl ho) rfl hl.1 rfl (Nat.le_of_ble_eq_true rfl) dX4_checksum_13 ⟨Nat.le_of_ble_eq_true rfl, Nat.le_of_ble_eq_true rfl⟩ (fun w H locs hH h => ?_)
  refine lv_iconst (v := 0) hx hb dX4_checksum_16 (by decide) ?_
  refine lv_istore_n hx hb dX4_checksum_17 rfl hl (by decide) (lv' := [(1, .int (0 : Int32)), (0, va_rf (some a0))]) rfl (fun ls hl => ?_)
  obtain ⟨n9, h⟩ := h
  refine W.widen (k := 0) (n := 0) (Nat.le_of_ble_eq_true rfl) (Nat.le_of_ble_eq_true rfl) ?_
  exact L18 n9 _ _ _ h _ _ _ hH (lv_sub hl [1, 0] rfl)
