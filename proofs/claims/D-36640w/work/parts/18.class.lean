/-! Burrowline (printed by gen/gen.py: weakest preconditions and walks) -/
set_option maxRecDepth 100000
def wp_X1_init_s118 (K : Hp → Prop) (bk83 : Hp → Nat → Int32 → Prop) (bk118 : Hp → Nat → Int32 → Int32 → Prop) (w : Hp) (a0 : Nat) (x1 : Int32) (x2 : Int32) : Prop :=
  br ((3 : Int32) ≤ x2) (nm (x1 + 1) fun i_2 => bk83 w a0 i_2) (gR w a0 0 6 fun r_3 => dR r_3 fun b_4 => aR w b_4 x1 fun r_5 => nO w 2 fsX3 fun w b_6 => gR w a0 0 3 fun r_7 => dR r_7 fun b_8 => aI w b_8 x2 fun i_9 => wp_X3_init w b_6 i_9 fun w => dR r_5 fun b_10 => sR w b_10 x2 (some b_6) fun w => nm (x2 + 1) fun i_11 => bk118 w a0 x1 i_11)
def wp_X1_init_l118 (K : Hp → Prop) (bk83 : Hp → Nat → Int32 → Prop) : ((Hp × Nat × Int32 × Int32) → Prop) → (Hp × Nat × Int32 × Int32) → Prop := fun bk q => wp_X1_init_s118 K bk83 (fun w a0 x1 x2 => bk (w, a0, x1, x2)) q.1 q.2.1 q.2.2.1 q.2.2.2
def wp_X1_init_b118 (K : Hp → Prop) (bk83 : Hp → Nat → Int32 → Prop) (w : Hp) (a0 : Nat) (x1 : Int32) (x2 : Int32) : Prop := lpN (wp_X1_init_l118 K bk83) 4 (w, a0, x1, x2)
def wp_X1_init_s83 (K : Hp → Prop)  (bk83 : Hp → Nat → Int32 → Prop) (w : Hp) (a0 : Nat) (x1 : Int32) : Prop :=
  br ((3 : Int32) ≤ x1) (K w) (gR w a0 0 5 fun r_2 => nO w 1 fsX2 fun w b_3 => wp_X2_init w b_3 fun w => dR r_2 fun b_4 => sR w b_4 x1 (some b_3) fun w => gR w a0 0 8 fun r_5 => nO w 7 fsJ2 fun w b_6 => wp_J2_init w b_6 fun w => dR r_5 fun b_7 => isO w b_7 7 <| wp_J2_add w b_7 b_6 fun w i_8 => wp_X1_init_b118 K bk83 w a0 x1 (0 : Int32))
def wp_X1_init_l83 (K : Hp → Prop)  : ((Hp × Nat × Int32) → Prop) → (Hp × Nat × Int32) → Prop := fun bk q => wp_X1_init_s83 K  (fun w a0 x1 => bk (w, a0, x1)) q.1 q.2.1 q.2.2
def wp_X1_init_b83 (K : Hp → Prop)  (w : Hp) (a0 : Nat) (x1 : Int32) : Prop := lpN (wp_X1_init_l83 K ) 4 (w, a0, x1)
def wp_X1_init (w : Hp) (a0 : Nat) (K : Hp → Prop) : Prop :=
  nI_ w (3 : Int32) 3 fun w b_1 => sI w b_1 (0 : Int32) (10 : Int32) fun w => sI w b_1 (1 : Int32) (20 : Int32) fun w => sI w b_1 (2 : Int32) (30 : Int32) fun w => pV w a0 0 3 (va_rf (some b_1)) fun w => nZ_ w (3 : Int32) 3 fun w b_2 => pV w a0 0 4 (va_rf (some b_2)) fun w => nR_ 5 w (3 : Int32) 3 fun w b_3 => pV w a0 0 5 (va_rf (some b_3)) fun w => nMk [3, 3] 4 w fun w b_4 => pV w a0 0 6 (va_rf (some b_4)) fun w => nO w 7 fsJ2 fun w b_5 => wp_J2_init w b_5 fun w => pV w a0 0 7 (va_rf (some b_5)) fun w => nO w 7 fsJ2 fun w b_6 => wp_J2_init w b_6 fun w => pV w a0 0 8 (va_rf (some b_6)) fun w => nI_ w (11 : Int32) 11 fun w b_7 => pV w a0 0 9 (va_rf (some b_7)) fun w => wp_X1_init_b83 K w a0 (0 : Int32)
abbrev rm_X1_init : Room := { frames := 8, cells := 130, slots := 1618, locals := 268 }
abbrev ws9_X1_init : List Cond := ws_ yX1_init cX1_init 3 none
abbrev Q9_X1_init (below : List Frame) (args : Array Value) (s : State) (G : hG) (K : Hp → Prop) : State → Prop := MQ below (hx_Qv G K) args s 130 1618 (hx_A G)
set_option maxHeartbeats 4000000 in
set_option maxRecDepth 100000 in
theorem wk_X1_init (l : Launch) {G : hG} {w : Hp} {a0 : Nat} {K : Hp → Prop} (h : wp_X1_init w a0 K) : hx_Mv l yX1_init (ws9_X1_init) rm_X1_init G w [.ref a0] K 130 1618 := by
  refine Met.ofW (cc := cX1_init) (maxL := 3) (ret := none) (by decide +kernel) rfl ?_
  intro p e s m args below meth c s₁ B hml hv
  refine hx_in (own := RX1) (av := [.ref a0]) (vl := [(0, va_rf (some a0))]) rfl rfl (Nat.le_of_ble_eq_true rfl) rfl B hml hv ?_
  intro C0 hU hH hr hlocks hin ls hl
  have hx := C0.1
  have hb := C0.2.1
  have hts := C0.2.2.2.2
  have L83 : ∀ (n83 cl83 sl83 : Nat), cl83 + n83 * 30 ≤ 130 → sl83 + n83 * 395 ≤ 1618 → ∀ (w : Hp) (a0 : Nat) (x1 : Int32), lpN (wp_X1_init_l83 K ) n83 (w, a0, x1) → ∀ (H : Heap) (locs : List Loc) (ls : Array Slot), hx_H G w s H locs → lv_has ls 3 [(0, va_rf (some a0)), (1, .int x1)] → W p l e (headSpec (ws9_X1_init) rm_X1_init).room s m args below meth c H locs (cl83 + 0) (sl83 + 0) (Q9_X1_init below args s G K) (F0 m 83 ls []) := by
    intro n83
    induction n83 with
    | zero => intro cl83 sl83 _ _ w a0 x1 h; exact h.elim
    | succ n83 ih83 =>
      intro cl83 sl83 hcl83 hsl83 w a0 x1 h H locs ls hH hl
      have h : wp_X1_init_s83 K  (fun w a0 x1 => lpN (wp_X1_init_l83 K ) n83 (w, a0, x1)) w a0 x1 := h
      have L118 : ∀ (n118 cl118 sl118 : Nat), cl118 + n118 * 6 ≤ cl83 + 30 → sl118 + n118 * 27 ≤ sl83 + 395 → ∀ (w : Hp) (a0 : Nat) (x1 : Int32) (x2 : Int32), lpN (wp_X1_init_l118 K (fun w a0 x1 => lpN (wp_X1_init_l83 K ) n83 (w, a0, x1))) n118 (w, a0, x1, x2) → ∀ (H : Heap) (locs : List Loc) (ls : Array Slot), hx_H G w s H locs → lv_has ls 3 [(0, va_rf (some a0)), (1, .int x1), (2, .int x2)] → W p l e (headSpec (ws9_X1_init) rm_X1_init).room s m args below meth c H locs (cl118 + 0) (sl118 + 0) (Q9_X1_init below args s G K) (F0 m 118 ls []) := by
        intro n118
        induction n118 with
        | zero => intro cl118 sl118 _ _ w a0 x1 x2 h; exact h.elim
        | succ n118 ih118 =>
          intro cl118 sl118 hcl118 hsl118 w a0 x1 x2 h H locs ls hH hl
          have h : wp_X1_init_s118 K (fun w a0 x1 => lpN (wp_X1_init_l83 K ) n83 (w, a0, x1)) (fun w a0 x1 x2 => lpN (wp_X1_init_l118 K (fun w a0 x1 => lpN (wp_X1_init_l83 K ) n83 (w, a0, x1))) n118 (w, a0, x1, x2)) w a0 x1 x2 := h
          refine lv_iload_n hx hb dX1_init_118 rfl (lv_at hl 2 rfl) ?_
          refine lv_iconst (v := 3) hx hb dX1_init_119 (by decide) ?_
          refine lv_icmp_ge hx hb dX1_init_120 (tgt := 150) (by decide) (fun c_1 => ?_) (fun c_1 => ?_)
          · have h := h.1 c_1
            obtain ⟨i_2, ei_2⟩ : ∃ z, z = x1 + 1 := ⟨_, rfl⟩
            have h := h i_2 ei_2
            refine lv_iinc (k := 1) hx hb dX1_init_150 hl rfl (v := i_2) (by rw [ei_2]; rfl) (by decide) (lv' := [(1, .int i_2), (0, va_rf (some a0)), (2, .int x2)]) rfl (fun ls hl => ?_)
            refine lv_goto hx hb dX1_init_153 (tgt := 83) (by decide) ?_
            refine W.widen (k := cl83 + 30) (n := sl83 + 395) (by omega) (by omega) ?_
            exact ih83 _ _ (by omega) (by omega) _ _ _ h _ _ _ hH (lv_sub hl [1, 0] rfl)
          · have h := h.2 c_1
            refine hx_aload_n C0 dX1_init_123 rfl (lv_at hl 0 rfl) ?_
            refine hx_gR C0 hU hH (ci := 0) rfl in_X1 6 (by decide) q269 (fun _ h9 => h9) h dX1_init_124 (fun r_3 h => ?_)
            refine lv_iload_n hx hb dX1_init_127 rfl (lv_at hl 1 rfl) ?_
            obtain ⟨b_4, rfl, h9⟩ := h
            have h := h9
            clear h9
            refine hx_aR C0 hU hH h dX1_init_128 (fun r_5 h => ?_)
            refine lv_iload_n hx hb dX1_init_129 rfl (lv_at hl 2 rfl) ?_
            refine hx_new C0 hU hH (ci := 2) rfl in_X3 tyX3 tyX3_ok q215 q216 q70 nfX3 ((show _ ≤ 130 by omega)) ((show _ ≤ 1618 by omega)) h dX1_init_130 (fun b_6 w H locs hH h => ?_)
            refine lv_dup hx hb dX1_init_133 rfl ?_
            refine hx_aload_n C0 dX1_init_134 rfl (lv_at hl 0 rfl) ?_
            refine hx_gR C0 hU hH (ci := 0) rfl in_X1 3 (by decide) q266 (fun _ h9 => h9) h dX1_init_135 (fun r_7 h => ?_)
            refine lv_iload_n hx hb dX1_init_138 rfl (lv_at hl 2 rfl) ?_
            obtain ⟨b_8, rfl, h9⟩ := h
            have h := h9
            clear h9
            refine hx_aI C0 hU hH h dX1_init_139 (fun i_9 h => ?_)
            refine hx_INv C0 hU hH (As := [.int i_9]) (wk_X3_init l h) ⟨va_cnB 1 hts (lw_meth q219) rfl rfl rfl (hU.2.2.1 _ q217 rfl) (hts _ q70) (by decide +kernel) ⟨Nat.le_of_ble_eq_true rfl, Nat.le_of_ble_eq_true rfl⟩, rfl, hts _ q218⟩ rfl hl.1 rfl (by cases r_5 <;> exact Nat.le_of_ble_eq_true rfl) dX1_init_140 ⟨(show _ ≤ 130 by omega), (show _ ≤ 1618 by omega)⟩ (fun w H locs hH h => ?_)
            obtain ⟨b_10, rfl, h9⟩ := h
            have h := h9
            clear h9
            refine hx_sR C0 hU hH h dX1_init_143 (fun w H locs hH h => ?_)
            obtain ⟨i_11, ei_11⟩ : ∃ z, z = x2 + 1 := ⟨_, rfl⟩
            have h := h i_11 ei_11
            refine lv_iinc (k := 2) hx hb dX1_init_144 hl rfl (v := i_11) (by rw [ei_11]; rfl) (by decide) (lv' := [(2, .int i_11), (0, va_rf (some a0)), (1, .int x1)]) rfl (fun ls hl => ?_)
            refine lv_goto hx hb dX1_init_147 (tgt := 118) (by decide) ?_
            refine W.widen (k := cl118 + 6) (n := sl118 + 27) (by omega) (by omega) ?_
            exact ih118 _ _ (by omega) (by omega) _ _ _ _ h _ _ _ hH (lv_sub hl [1, 2, 0] rfl)
      refine lv_iload_n hx hb dX1_init_83 rfl (lv_at hl 1 rfl) ?_
      refine lv_iconst (v := 3) hx hb dX1_init_84 (by decide) ?_
      refine lv_icmp_ge hx hb dX1_init_85 (tgt := 156) (by decide) (fun c_1 => ?_) (fun c_1 => ?_)
      · have h := h.1 c_1
        exact hx_retv C0 hH hr hlocks h (by omega) (by omega) dX1_init_156
      · have h := h.2 c_1
        refine hx_aload_n C0 dX1_init_88 rfl (lv_at hl 0 rfl) ?_
        refine hx_gR C0 hU hH (ci := 0) rfl in_X1 5 (by decide) q268 (fun _ h9 => h9) h dX1_init_89 (fun r_2 h => ?_)
        refine lv_iload_n hx hb dX1_init_92 rfl (lv_at hl 1 rfl) ?_
        refine hx_new C0 hU hH (ci := 1) rfl in_X2 tyX2 tyX2_ok q95 q132 q64 nfX2 ((show _ ≤ 130 by omega)) ((show _ ≤ 1618 by omega)) h dX1_init_93 (fun b_3 w H locs hH h => ?_)
        refine lv_dup hx hb dX1_init_96 rfl ?_
        refine hx_INv C0 hU hH (As := []) (wk_X2_init l h) ⟨va_cnB 0 hts (lw_meth q135) rfl rfl rfl (hU.2.2.1 _ q133 rfl) (hts _ q64) (by decide +kernel) ⟨Nat.le_of_ble_eq_true rfl, Nat.le_of_ble_eq_true rfl⟩, rfl, hts _ q134⟩ rfl hl.1 rfl (by cases r_2 <;> exact Nat.le_of_ble_eq_true rfl) dX1_init_97 ⟨(show _ ≤ 130 by omega), (show _ ≤ 1618 by omega)⟩ (fun w H locs hH h => ?_)
        obtain ⟨b_4, rfl, h9⟩ := h
        have h := h9
        clear h9
        refine hx_sR C0 hU hH h dX1_init_100 (fun w H locs hH h => ?_)
        refine hx_aload_n C0 dX1_init_101 rfl (lv_at hl 0 rfl) ?_
        refine hx_gR C0 hU hH (ci := 0) rfl in_X1 8 (by decide) q271 (fun _ h9 => h9) h dX1_init_102 (fun r_5 h => ?_)
        refine hx_new C0 hU hH (ci := 7) rfl in_J2 tyJ2 tyJ2_ok q101 q102 q63 nfJ2 ((show _ ≤ 130 by omega)) ((show _ ≤ 1618 by omega)) h dX1_init_105 (fun b_6 w H locs hH h => ?_)
        refine lv_dup hx hb dX1_init_108 rfl ?_
        refine hx_Iv C0 hU hH (As := []) (wk_J2_init l h) (cwI 0 hts (lw_meth q105) rfl rfl rfl (hts _ q63) (hts _ q103) (hts _ q104) rfl (by decide +kernel) ⟨Nat.le_of_ble_eq_true rfl, Nat.le_of_ble_eq_true rfl⟩) rfl hl.1 rfl (by cases r_5 <;> exact Nat.le_of_ble_eq_true rfl) dX1_init_109 ⟨(show _ ≤ 130 by omega), (show _ ≤ 1618 by omega)⟩ (fun w H locs hH h => ?_)
        obtain ⟨b_7, rfl, h9⟩ := h
        have h := h9
        clear h9
        obtain ⟨ho, h⟩ := h
        refine hx_Vi C0 hU hH (As := [va_rf (some b_6)]) (wk_J2_add l h) (cwV 1 hts (lw_V q154 q155 q156 q63 q157) rfl rfl rfl (by decide +kernel) ⟨Nat.le_of_ble_eq_true rfl, Nat.le_of_ble_eq_true rfl⟩) (hx_recv hU hH (ci := 7) rfl ho) rfl hl.1 rfl (Nat.le_of_ble_eq_true rfl) dX1_init_112 ⟨(show _ ≤ 130 by omega), (show _ ≤ 1618 by omega)⟩ (fun i_8 w H locs hH h => ?_)
        refine lv_pop hx hb dX1_init_115 rfl ?_
        refine lv_iconst (v := 0) hx hb dX1_init_116 (by decide) ?_
        refine lv_istore_n hx hb dX1_init_117 rfl hl (by decide) (lv' := [(2, .int (0 : Int32)), (0, va_rf (some a0)), (1, .int x1)]) rfl (fun ls hl => ?_)
        refine W.widen (k := cl83 + 6) (n := sl83 + 287) (by omega) (by omega) ?_
        exact L118 4 (cl83 + 6) (sl83 + 287) (Nat.le_of_eq (Nat.add_assoc _ _ _)) (Nat.le_of_eq (Nat.add_assoc _ _ _)) _ _ _ _ h _ _ _ hH (lv_sub hl [1, 2, 0] rfl)
  refine hx_aload_n C0 dX1_init_0 rfl (lv_at hl 0 rfl) ?_
  refine W.objInit hx hb C0.2.2.2.1 (hts _ q92) (hts _ q93) (hts _ q94) rfl (by rw [C0.2.2.1]; exact hl.1) rfl dX1_init_1 (Nat.le_of_ble_eq_true rfl) (Nat.le_of_ble_eq_true rfl) ?_
  refine W.eq (g2 := F0 m 4 ls []) rfl ?_
  refine hx_aload_n C0 dX1_init_4 rfl (lv_at hl 0 rfl) ?_
  refine lv_iconst (v := 3) hx hb dX1_init_5 (by decide) ?_
  refine hx_nI C0 hU hH (Nat.le_of_ble_eq_true rfl) (Nat.le_of_ble_eq_true rfl) (Nat.le_of_ble_eq_true rfl) h dX1_init_6 (fun b_1 w H locs hH h => ?_)
  refine lv_dup hx hb dX1_init_8 rfl ?_
  refine lv_iconst (v := 0) hx hb dX1_init_9 (by decide) ?_
  refine lv_bipush (v := 10) hx hb dX1_init_10 (by decide) ?_
  refine hx_sI C0 hU hH h dX1_init_12 (fun w H locs hH h => ?_)
  refine lv_dup hx hb dX1_init_13 rfl ?_
  refine lv_iconst (v := 1) hx hb dX1_init_14 (by decide) ?_
  refine lv_bipush (v := 20) hx hb dX1_init_15 (by decide) ?_
  refine hx_sI C0 hU hH h dX1_init_17 (fun w H locs hH h => ?_)
  refine lv_dup hx hb dX1_init_18 rfl ?_
  refine lv_iconst (v := 2) hx hb dX1_init_19 (by decide) ?_
  refine lv_bipush (v := 30) hx hb dX1_init_20 (by decide) ?_
  refine hx_sI C0 hU hH h dX1_init_22 (fun w H locs hH h => ?_)
  refine hx_pV C0 hU hH (ci := 0) rfl in_X1 tyX1 tyX1_ok nmX1 3 (by decide) q266 (fun _ h9 => h9) (Or.inr ⟨rfl, hin rfl, rfl⟩) (hx_fa _ _).1 (hx_fa _ _).2 h dX1_init_23 (fun w H locs hH h => ?_)
  refine hx_aload_n C0 dX1_init_26 rfl (lv_at hl 0 rfl) ?_
  refine lv_iconst (v := 3) hx hb dX1_init_27 (by decide) ?_
  refine hx_nZ C0 hU hH (Nat.le_of_ble_eq_true rfl) (Nat.le_of_ble_eq_true rfl) (Nat.le_of_ble_eq_true rfl) h dX1_init_28 (fun b_2 w H locs hH h => ?_)
  refine hx_pV C0 hU hH (ci := 0) rfl in_X1 tyX1 tyX1_ok nmX1 4 (by decide) q267 (fun _ h9 => h9) (Or.inr ⟨rfl, hin rfl, rfl⟩) (hx_fa _ _).1 (hx_fa _ _).2 h dX1_init_30 (fun w H locs hH h => ?_)
  refine hx_aload_n C0 dX1_init_33 rfl (lv_at hl 0 rfl) ?_
  refine lv_iconst (v := 3) hx hb dX1_init_34 (by decide) ?_
  refine hx_nRO C0 hU hH 5 (by decide) rfl q95 hU.2.2.2.1.1 (Nat.le_of_ble_eq_true rfl) (Nat.le_of_ble_eq_true rfl) (Nat.le_of_ble_eq_true rfl) h dX1_init_35 (fun b_3 w H locs hH h => ?_)
  refine hx_pV C0 hU hH (ci := 0) rfl in_X1 tyX1 tyX1_ok nmX1 5 (by decide) q268 (fun _ h9 => h9) (Or.inr ⟨rfl, hin rfl, rfl⟩) (hx_fa _ _).1 (hx_fa _ _).2 h dX1_init_38 (fun w H locs hH h => ?_)
  refine hx_aload_n C0 dX1_init_41 rfl (lv_at hl 0 rfl) ?_
  refine lv_iconst (v := 3) hx hb dX1_init_42 (by decide) ?_
  refine lv_iconst (v := 3) hx hb dX1_init_43 (by decide) ?_
  refine hx_nM2 C0 hU hH 4 3 3 rfl (hU.1.2 4 _ rfl).2 q97 h (Nat.le_of_ble_eq_true rfl) (Nat.le_of_ble_eq_true rfl) dX1_init_44 (fun b_4 w H locs hH h => ?_)
  refine hx_pV C0 hU hH (ci := 0) rfl in_X1 tyX1 tyX1_ok nmX1 6 (by decide) q269 (fun _ h9 => h9) (Or.inr ⟨rfl, hin rfl, rfl⟩) (hx_fa _ _).1 (hx_fa _ _).2 h dX1_init_48 (fun w H locs hH h => ?_)
  refine hx_aload_n C0 dX1_init_51 rfl (lv_at hl 0 rfl) ?_
  refine hx_new C0 hU hH (ci := 7) rfl in_J2 tyJ2 tyJ2_ok q101 q102 q63 nfJ2 (Nat.le_of_ble_eq_true rfl) (Nat.le_of_ble_eq_true rfl) h dX1_init_52 (fun b_5 w H locs hH h => ?_)
  refine lv_dup hx hb dX1_init_55 rfl ?_
  refine hx_Iv C0 hU hH (As := []) (wk_J2_init l h) (cwI 0 hts (lw_meth q105) rfl rfl rfl (hts _ q63) (hts _ q103) (hts _ q104) rfl (by decide +kernel) ⟨Nat.le_of_ble_eq_true rfl, Nat.le_of_ble_eq_true rfl⟩) rfl hl.1 rfl (Nat.le_of_ble_eq_true rfl) dX1_init_56 ⟨Nat.le_of_ble_eq_true rfl, Nat.le_of_ble_eq_true rfl⟩ (fun w H locs hH h => ?_)
  refine hx_pV C0 hU hH (ci := 0) rfl in_X1 tyX1 tyX1_ok nmX1 7 (by decide) q270 (fun _ h9 => h9) (Or.inr ⟨rfl, hin rfl, rfl⟩) (hx_fo _ _).1 (hx_fo _ _).2 h dX1_init_59 (fun w H locs hH h => ?_)
  refine hx_aload_n C0 dX1_init_62 rfl (lv_at hl 0 rfl) ?_
  refine hx_new C0 hU hH (ci := 7) rfl in_J2 tyJ2 tyJ2_ok q101 q102 q63 nfJ2 (Nat.le_of_ble_eq_true rfl) (Nat.le_of_ble_eq_true rfl) h dX1_init_63 (fun b_6 w H locs hH h => ?_)
  refine lv_dup hx hb dX1_init_66 rfl ?_
  refine hx_Iv C0 hU hH (As := []) (wk_J2_init l h) (cwI 0 hts (lw_meth q105) rfl rfl rfl (hts _ q63) (hts _ q103) (hts _ q104) rfl (by decide +kernel) ⟨Nat.le_of_ble_eq_true rfl, Nat.le_of_ble_eq_true rfl⟩) rfl hl.1 rfl (Nat.le_of_ble_eq_true rfl) dX1_init_67 ⟨Nat.le_of_ble_eq_true rfl, Nat.le_of_ble_eq_true rfl⟩ (fun w H locs hH h => ?_)
  refine hx_pV C0 hU hH (ci := 0) rfl in_X1 tyX1 tyX1_ok nmX1 8 (by decide) q271 (fun _ h9 => h9) (Or.inr ⟨rfl, hin rfl, rfl⟩) (hx_fo _ _).1 (hx_fo _ _).2 h dX1_init_70 (fun w H locs hH h => ?_)
  refine hx_aload_n C0 dX1_init_73 rfl (lv_at hl 0 rfl) ?_
  refine lv_bipush (v := 11) hx hb dX1_init_74 (by decide) ?_
  refine hx_nI C0 hU hH (Nat.le_of_ble_eq_true rfl) (Nat.le_of_ble_eq_true rfl) (Nat.le_of_ble_eq_true rfl) h dX1_init_76 (fun b_7 w H locs hH h => ?_)
  refine hx_pV C0 hU hH (ci := 0) rfl in_X1 tyX1 tyX1_ok nmX1 9 (by decide) q272 (fun _ h9 => h9) (Or.inr ⟨rfl, hin rfl, rfl⟩) (hx_fa _ _).1 (hx_fa _ _).2 h dX1_init_78 (fun w H locs hH h => ?_)
  refine lv_iconst (v := 0) hx hb dX1_init_81 (by decide) ?_
  refine lv_istore_n hx hb dX1_init_82 rfl hl (by decide) (lv' := [(1, .int (0 : Int32)), (0, va_rf (some a0))]) rfl (fun ls hl => ?_)
  refine W.widen (k := 10) (n := 38) (Nat.le_of_ble_eq_true rfl) (Nat.le_of_ble_eq_true rfl) ?_
  exact L83 4 (10) (38) (Nat.le_of_ble_eq_true rfl) (Nat.le_of_ble_eq_true rfl) _ _ _ h _ _ _ hH (lv_sub hl [1, 0] rfl)
def wp_X1_now (w : Hp) (a0 : Nat) (K : Hp → Int32 → Prop) : Prop :=
  gI w a0 0 0 fun i_1 => K w i_1
abbrev rm_X1_now : Room := { frames := 0, cells := 0, slots := 0, locals := 0 }
abbrev ws9_X1_now : List Cond := ws_ yX1_now cX1_now 1 (Option.some Jvm.ClassFile.FieldType.int)
abbrev Q9_X1_now (below : List Frame) (args : Array Value) (s : State) (G : hG) (K : Hp → Int32 → Prop) : State → Prop := MQ below (hx_Qi G K) args s 0 0 (hx_A G)
set_option maxHeartbeats 4000000 in
set_option maxRecDepth 100000 in
theorem wk_X1_now (l : Launch) {G : hG} {w : Hp} {a0 : Nat} {K : Hp → Int32 → Prop} (h : wp_X1_now w a0 K) : hx_Mi l yX1_now (ws9_X1_now) rm_X1_now G w [.ref a0] K 0 0 := by
  refine Met.ofW (cc := cX1_now) (maxL := 1) (ret := (Option.some Jvm.ClassFile.FieldType.int)) (by decide +kernel) rfl ?_
  intro p e s m args below meth c s₁ B hml hv
  refine hx_in (own := RX1) (av := [.ref a0]) (vl := [(0, va_rf (some a0))]) rfl rfl (Nat.le_of_ble_eq_true rfl) rfl B hml hv ?_
  intro C0 hU hH hr hlocks hin ls hl
  have hx := C0.1
  have hb := C0.2.1
  have hts := C0.2.2.2.2
  refine hx_aload_n C0 dX1_now_0 rfl (lv_at hl 0 rfl) ?_
  refine hx_gI C0 hU hH (ci := 0) rfl in_X1 0 (by decide) q263 (fun _ h9 => h9) h dX1_now_1 (fun i_1 h => ?_)
  exact hx_reti C0 hH hr hlocks h (Nat.le_of_ble_eq_true rfl) (Nat.le_of_ble_eq_true rfl) dX1_now_4
def wp_X1_letters (w : Hp) (a0 : Nat) (K : Hp → Int32 → Prop) : Prop :=
  gR w a0 0 7 fun r_1 => dR r_1 fun b_2 => isO w b_2 7 <| wp_J2_size w b_2 fun w i_3 => K w i_3
abbrev rm_X1_letters : Room := { frames := 1, cells := 0, slots := 0, locals := 20 }
abbrev ws9_X1_letters : List Cond := ws_ yX1_letters cX1_letters 1 (Option.some Jvm.ClassFile.FieldType.int)
abbrev Q9_X1_letters (below : List Frame) (args : Array Value) (s : State) (G : hG) (K : Hp → Int32 → Prop) : State → Prop := MQ below (hx_Qi G K) args s 0 0 (hx_A G)
set_option maxHeartbeats 4000000 in
set_option maxRecDepth 100000 in
theorem wk_X1_letters (l : Launch) {G : hG} {w : Hp} {a0 : Nat} {K : Hp → Int32 → Prop} (h : wp_X1_letters w a0 K) : hx_Mi l yX1_letters (ws9_X1_letters) rm_X1_letters G w [.ref a0] K 0 0 := by
  refine Met.ofW (cc := cX1_letters) (maxL := 1) (ret := (Option.some Jvm.ClassFile.FieldType.int)) (by decide +kernel) rfl ?_
  intro p e s m args below meth c s₁ B hml hv
  refine hx_in (own := RX1) (av := [.ref a0]) (vl := [(0, va_rf (some a0))]) rfl rfl (Nat.le_of_ble_eq_true rfl) rfl B hml hv ?_
  intro C0 hU hH hr hlocks hin ls hl
  have hx := C0.1
  have hb := C0.2.1
  have hts := C0.2.2.2.2
  refine hx_aload_n C0 dX1_letters_0 rfl (lv_at hl 0 rfl) ?_
  refine hx_gR C0 hU hH (ci := 0) rfl in_X1 7 (by decide) q270 (fun _ h9 => h9) h dX1_letters_1 (fun r_1 h => ?_)
  obtain ⟨b_2, rfl, h9⟩ := h
  have h := h9
  clear h9
  obtain ⟨ho, h⟩ := h
  refine hx_Vi C0 hU hH (As := []) (wk_J2_size l h) (cwV 0 hts (lw_V q302 q303 q304 q63 q305) rfl rfl rfl (by decide +kernel) ⟨Nat.le_of_ble_eq_true rfl, Nat.le_of_ble_eq_true rfl⟩) (hx_recv hU hH (ci := 7) rfl ho) rfl hl.1 rfl (Nat.le_of_ble_eq_true rfl) dX1_letters_4 ⟨Nat.le_of_ble_eq_true rfl, Nat.le_of_ble_eq_true rfl⟩ (fun i_3 w H locs hH h => ?_)
  exact hx_reti C0 hH hr hlocks h (Nat.le_of_ble_eq_true rfl) (Nat.le_of_ble_eq_true rfl) dX1_letters_7
def wp_X1_share (w : Hp) (a0 : Nat) (K : Hp → UInt32 → Prop) : Prop :=
  gR w a0 0 9 fun r_1 => dR r_1 fun b_2 => aI w b_2 (8 : Int32) fun i_3 => gI w a0 0 2 fun i_4 => br (i_4 = 0) (K w FP.fconst0) (gI w a0 0 2 fun i_6 => gd (vf_n32 (FP.fdiv (FP.i2f i_3) (FP.i2f i_6))) <| K w (FP.fdiv (FP.i2f i_3) (FP.i2f i_6)))
abbrev rm_X1_share : Room := { frames := 0, cells := 0, slots := 0, locals := 0 }
abbrev ws9_X1_share : List Cond := ws_ yX1_share cX1_share 2 (Option.some Jvm.ClassFile.FieldType.float)
abbrev Q9_X1_share (below : List Frame) (args : Array Value) (s : State) (G : hG) (K : Hp → UInt32 → Prop) : State → Prop := MQ below (hx_Qf G K) args s 0 0 (hx_A G)
set_option maxHeartbeats 4000000 in
set_option maxRecDepth 100000 in
theorem wk_X1_share (l : Launch) {G : hG} {w : Hp} {a0 : Nat} {K : Hp → UInt32 → Prop} (h : wp_X1_share w a0 K) : hx_Mf l yX1_share (ws9_X1_share) rm_X1_share G w [.ref a0] K 0 0 := by
  refine Met.ofW (cc := cX1_share) (maxL := 2) (ret := (Option.some Jvm.ClassFile.FieldType.float)) (by decide +kernel) rfl ?_
  intro p e s m args below meth c s₁ B hml hv
  refine hx_in (own := RX1) (av := [.ref a0]) (vl := [(0, va_rf (some a0))]) rfl rfl (Nat.le_of_ble_eq_true rfl) rfl B hml hv ?_
  intro C0 hU hH hr hlocks hin ls hl
  have hx := C0.1
  have hb := C0.2.1
  have hts := C0.2.2.2.2
  refine hx_aload_n C0 dX1_share_0 rfl (lv_at hl 0 rfl) ?_
  refine hx_gR C0 hU hH (ci := 0) rfl in_X1 9 (by decide) q272 (fun _ h9 => h9) h dX1_share_1 (fun r_1 h => ?_)
  refine lv_bipush (v := 8) hx hb dX1_share_4 (by decide) ?_
  obtain ⟨b_2, rfl, h9⟩ := h
  have h := h9
  clear h9
  refine hx_aI C0 hU hH h dX1_share_6 (fun i_3 h => ?_)
  refine lv_istore_n hx hb dX1_share_7 rfl hl (by decide) (lv' := [(1, .int i_3), (0, va_rf (some a0))]) rfl (fun ls hl => ?_)
  refine hx_aload_n C0 dX1_share_8 rfl (lv_at hl 1 rfl) ?_
  refine hx_gI C0 hU hH (ci := 0) rfl in_X1 2 (by decide) q265 (fun _ h9 => h9) h dX1_share_9 (fun i_4 h => ?_)
  refine lv_if_ne hx hb dX1_share_12 (tgt := 19) (by decide) (fun c_5 => ?_) (fun c_5 => ?_)
  · have h := h.2 c_5
    refine lv_iload_n hx hb dX1_share_19 rfl (lv_at hl 0 rfl) ?_
    refine lv_i2f hx hb dX1_share_20 ?_
    refine hx_aload_n C0 dX1_share_21 rfl (lv_at hl 1 rfl) ?_
    refine hx_gI C0 hU hH (ci := 0) rfl in_X1 2 (by decide) q265 (fun _ h9 => h9) h dX1_share_22 (fun i_6 h => ?_)
    refine lv_i2f hx hb dX1_share_25 ?_
    obtain ⟨hg, h⟩ := h
    refine lv_fdiv hx hb dX1_share_26 hg ?_
    exact hx_retf C0 hH hr hlocks h (Nat.le_of_ble_eq_true rfl) (Nat.le_of_ble_eq_true rfl) dX1_share_27
  · have h := h.1 c_5
    refine lv_fconst0 hx hb dX1_share_15 ?_
    refine lv_goto hx hb dX1_share_16 (tgt := 27) (by decide) ?_
    exact hx_retf C0 hH hr hlocks h (Nat.le_of_ble_eq_true rfl) (Nat.le_of_ble_eq_true rfl) dX1_share_27
def wp_X1_age (w : Hp) (a0 : Nat) (a1 : Nat) (K : Hp → Int32 → Prop) : Prop :=
  gI w a0 0 0 fun i_1 => gI w a1 6 2 fun i_2 => K w (i_1 - i_2)
abbrev rm_X1_age : Room := { frames := 0, cells := 0, slots := 0, locals := 0 }
abbrev ws9_X1_age : List Cond := ws_ yX1_age cX1_age 2 (Option.some Jvm.ClassFile.FieldType.int)
abbrev Q9_X1_age (below : List Frame) (args : Array Value) (s : State) (G : hG) (K : Hp → Int32 → Prop) : State → Prop := MQ below (hx_Qi G K) args s 0 0 (hx_A G)
set_option maxHeartbeats 4000000 in
set_option maxRecDepth 100000 in
theorem wk_X1_age (l : Launch) {G : hG} {w : Hp} {a0 : Nat} {a1 : Nat} {K : Hp → Int32 → Prop} (h : wp_X1_age w a0 a1 K) : hx_Mi l yX1_age (ws9_X1_age) rm_X1_age G w [.ref a0, .ref a1] K 0 0 := by
  refine Met.ofW (cc := cX1_age) (maxL := 2) (ret := (Option.some Jvm.ClassFile.FieldType.int)) (by decide +kernel) rfl ?_
  intro p e s m args below meth c s₁ B hml hv
  refine hx_in (own := RX1) (av := [.ref a0, .ref a1]) (vl := [(0, va_rf (some a0)), (1, va_rf (some a1))]) rfl rfl (Nat.le_of_ble_eq_true rfl) rfl B hml hv ?_
  intro C0 hU hH hr hlocks hin ls hl
  have hx := C0.1
  have hb := C0.2.1
  have hts := C0.2.2.2.2
  refine hx_aload_n C0 dX1_age_0 rfl (lv_at hl 0 rfl) ?_
  refine hx_gI C0 hU hH (ci := 0) rfl in_X1 0 (by decide) q263 (fun _ h9 => h9) h dX1_age_1 (fun i_1 h => ?_)
  refine hx_aload_n C0 dX1_age_4 rfl (lv_at hl 1 rfl) ?_
  refine hx_gIN C0 hU hH (ci := 6) rfl in_X7 2 (by decide) q807 (fun _ h9 => h9) h dX1_age_5 (fun i_2 h => ?_)
  refine lv_isub hx hb dX1_age_8 ?_
  exact hx_reti C0 hH hr hlocks h (Nat.le_of_ble_eq_true rfl) (Nat.le_of_ble_eq_true rfl) dX1_age_9
def wp_X1_meanAge_b69 (K : Hp → UInt64 → Prop) (bk7 : Hp → Nat → Int64 → Int32 → Int32 → Prop) (bk16 : Hp → Nat → Int64 → Int32 → Int32 → Int32 → Prop) (w : Hp) (a0 : Nat) (x1 : Int64) (x3 : Int32) (x4 : Int32) (x5 : Int32) : Prop :=
  nm (x5 + 1) fun i_1 => bk16 w a0 x1 x3 x4 i_1
def wp_X1_meanAge_s16 (K : Hp → UInt64 → Prop) (bk7 : Hp → Nat → Int64 → Int32 → Int32 → Prop) (bk16 : Hp → Nat → Int64 → Int32 → Int32 → Int32 → Prop) (w : Hp) (a0 : Nat) (x1 : Int64) (x3 : Int32) (x4 : Int32) (x5 : Int32) : Prop :=
  br ((3 : Int32) ≤ x5) (nm (x4 + 1) fun i_2 => bk7 w a0 x1 x3 i_2) (br (x5 = x4) (wp_X1_meanAge_b69 K bk7 bk16 w a0 x1 x3 x4 x5) (gR w a0 0 6 fun r_4 => dR r_4 fun b_5 => aR w b_5 x4 fun r_6 => dR r_6 fun b_7 => aR w b_7 x5 fun r_8 => dR r_8 fun b_9 => gR w b_9 2 2 fun r_10 => br (r_10 = none) (wp_X1_meanAge_b69 K bk7 bk16 w a0 x1 x3 x4 x5) (gR w a0 0 6 fun r_12 => dR r_12 fun b_13 => aR w b_13 x4 fun r_14 => dR r_14 fun b_15 => aR w b_15 x5 fun r_16 => dR r_16 fun b_17 => gR w b_17 2 2 fun r_18 => dR r_18 fun b_19 => isO w a0 0 <| wp_X1_age w a0 b_19 fun w i_20 => nm (x1 + (i_20.toInt64)) fun l_21 => nm (x3 + 1) fun i_22 => wp_X1_meanAge_b69 K bk7 bk16 w a0 l_21 i_22 x4 x5)))
def wp_X1_meanAge_l16 (K : Hp → UInt64 → Prop) (bk7 : Hp → Nat → Int64 → Int32 → Int32 → Prop) : ((Hp × Nat × Int64 × Int32 × Int32 × Int32) → Prop) → (Hp × Nat × Int64 × Int32 × Int32 × Int32) → Prop := fun bk q => wp_X1_meanAge_s16 K bk7 (fun w a0 x1 x3 x4 x5 => bk (w, a0, x1, x3, x4, x5)) q.1 q.2.1 q.2.2.1 q.2.2.2.1 q.2.2.2.2.1 q.2.2.2.2.2
def wp_X1_meanAge_b16 (K : Hp → UInt64 → Prop) (bk7 : Hp → Nat → Int64 → Int32 → Int32 → Prop) (w : Hp) (a0 : Nat) (x1 : Int64) (x3 : Int32) (x4 : Int32) (x5 : Int32) : Prop := lp (wp_X1_meanAge_l16 K bk7) (w, a0, x1, x3, x4, x5)
def wp_X1_meanAge_s7 (K : Hp → UInt64 → Prop)  (bk7 : Hp → Nat → Int64 → Int32 → Int32 → Prop) (w : Hp) (a0 : Nat) (x1 : Int64) (x3 : Int32) (x4 : Int32) : Prop :=
  br ((3 : Int32) ≤ x4) (br (x3 = 0) (K w FP.dconst0) (gd (vf_n64 (FP.ddiv (FP.l2d x1) (FP.i2d x3))) <| K w (FP.ddiv (FP.l2d x1) (FP.i2d x3)))) (wp_X1_meanAge_b16 K bk7 w a0 x1 x3 x4 (0 : Int32))
def wp_X1_meanAge_l7 (K : Hp → UInt64 → Prop)  : ((Hp × Nat × Int64 × Int32 × Int32) → Prop) → (Hp × Nat × Int64 × Int32 × Int32) → Prop := fun bk q => wp_X1_meanAge_s7 K  (fun w a0 x1 x3 x4 => bk (w, a0, x1, x3, x4)) q.1 q.2.1 q.2.2.1 q.2.2.2.1 q.2.2.2.2
def wp_X1_meanAge_b7 (K : Hp → UInt64 → Prop)  (w : Hp) (a0 : Nat) (x1 : Int64) (x3 : Int32) (x4 : Int32) : Prop := lp (wp_X1_meanAge_l7 K ) (w, a0, x1, x3, x4)
def wp_X1_meanAge (w : Hp) (a0 : Nat) (K : Hp → UInt64 → Prop) : Prop :=
  wp_X1_meanAge_b7 K w a0 (0 : Int64) (0 : Int32) (0 : Int32)
abbrev rm_X1_meanAge : Room := { frames := 1, cells := 0, slots := 0, locals := 21 }
abbrev ws9_X1_meanAge : List Cond := ws_ yX1_meanAge cX1_meanAge 6 (Option.some Jvm.ClassFile.FieldType.double)
abbrev Q9_X1_meanAge (below : List Frame) (args : Array Value) (s : State) (G : hG) (K : Hp → UInt64 → Prop) : State → Prop := MQ below (hx_Qd G K) args s 0 0 (hx_A G)
set_option maxHeartbeats 4000000 in
set_option maxRecDepth 100000 in
theorem wk_X1_meanAge (l : Launch) {G : hG} {w : Hp} {a0 : Nat} {K : Hp → UInt64 → Prop} (h : wp_X1_meanAge w a0 K) : hx_Md l yX1_meanAge (ws9_X1_meanAge) rm_X1_meanAge G w [.ref a0] K 0 0 := by
  refine Met.ofW (cc := cX1_meanAge) (maxL := 6) (ret := (Option.some Jvm.ClassFile.FieldType.double)) (by decide +kernel) rfl ?_
  intro p e s m args below meth c s₁ B hml hv
  refine hx_in (own := RX1) (av := [.ref a0]) (vl := [(0, va_rf (some a0))]) rfl rfl (Nat.le_of_ble_eq_true rfl) rfl B hml hv ?_
  intro C0 hU hH hr hlocks hin ls hl
  have hx := C0.1
  have hb := C0.2.1
  have hts := C0.2.2.2.2
  have L7 : ∀ (n7 : Nat) (w : Hp) (a0 : Nat) (x1 : Int64) (x3 : Int32) (x4 : Int32), lpN (wp_X1_meanAge_l7 K ) n7 (w, a0, x1, x3, x4) → ∀ (H : Heap) (locs : List Loc) (ls : Array Slot), hx_H G w s H locs → lv_has ls 6 [(0, va_rf (some a0)), (1, .long x1), (3, .int x3), (4, .int x4)] → W p l e (headSpec (ws9_X1_meanAge) rm_X1_meanAge).room s m args below meth c H locs (0) (0) (Q9_X1_meanAge below args s G K) (F0 m 7 ls []) := by
    intro n7
    induction n7 with
    | zero => intro w a0 x1 x3 x4 h; exact h.elim
    | succ n7 ih7 =>
      intro w a0 x1 x3 x4 h H locs ls hH hl
      have h : wp_X1_meanAge_s7 K  (fun w a0 x1 x3 x4 => lpN (wp_X1_meanAge_l7 K ) n7 (w, a0, x1, x3, x4)) w a0 x1 x3 x4 := h
      have L16 : ∀ (n16 : Nat) (w : Hp) (a0 : Nat) (x1 : Int64) (x3 : Int32) (x4 : Int32) (x5 : Int32), lpN (wp_X1_meanAge_l16 K (fun w a0 x1 x3 x4 => lpN (wp_X1_meanAge_l7 K ) n7 (w, a0, x1, x3, x4))) n16 (w, a0, x1, x3, x4, x5) → ∀ (H : Heap) (locs : List Loc) (ls : Array Slot), hx_H G w s H locs → lv_has ls 6 [(0, va_rf (some a0)), (1, .long x1), (3, .int x3), (4, .int x4), (5, .int x5)] → W p l e (headSpec (ws9_X1_meanAge) rm_X1_meanAge).room s m args below meth c H locs (0) (0) (Q9_X1_meanAge below args s G K) (F0 m 16 ls []) := by
        intro n16
        induction n16 with
        | zero => intro w a0 x1 x3 x4 x5 h; exact h.elim
        | succ n16 ih16 =>
          intro w a0 x1 x3 x4 x5 h H locs ls hH hl
          have h : wp_X1_meanAge_s16 K (fun w a0 x1 x3 x4 => lpN (wp_X1_meanAge_l7 K ) n7 (w, a0, x1, x3, x4)) (fun w a0 x1 x3 x4 x5 => lpN (wp_X1_meanAge_l16 K (fun w a0 x1 x3 x4 => lpN (wp_X1_meanAge_l7 K ) n7 (w, a0, x1, x3, x4))) n16 (w, a0, x1, x3, x4, x5)) w a0 x1 x3 x4 x5 := h
          have b69 : ∀ (w : Hp) (a0 : Nat) (x1 : Int64) (x3 : Int32) (x4 : Int32) (x5 : Int32), wp_X1_meanAge_b69 K (fun w a0 x1 x3 x4 => lpN (wp_X1_meanAge_l7 K ) n7 (w, a0, x1, x3, x4)) (fun w a0 x1 x3 x4 x5 => lpN (wp_X1_meanAge_l16 K (fun w a0 x1 x3 x4 => lpN (wp_X1_meanAge_l7 K ) n7 (w, a0, x1, x3, x4))) n16 (w, a0, x1, x3, x4, x5)) w a0 x1 x3 x4 x5 → ∀ (H : Heap) (locs : List Loc) (ls : Array Slot), hx_H G w s H locs → lv_has ls 6 [(0, va_rf (some a0)), (1, .long x1), (3, .int x3), (4, .int x4), (5, .int x5)] → W p l e (headSpec (ws9_X1_meanAge) rm_X1_meanAge).room s m args below meth c H locs (0) (0) (Q9_X1_meanAge below args s G K) (F0 m 69 ls []) := by
            intro w a0 x1 x3 x4 x5 h H locs ls hH hl
            obtain ⟨i_1, ei_1⟩ : ∃ z, z = x5 + 1 := ⟨_, rfl⟩
            have h := h i_1 ei_1
            refine lv_iinc (k := 4) hx hb dX1_meanAge_69 hl rfl (v := i_1) (by rw [ei_1]; rfl) (by decide) (lv' := [(5, .int i_1), (0, va_rf (some a0)), (1, .long x1), (3, .int x3), (4, .int x4)]) rfl (fun ls hl => ?_)
            refine lv_goto hx hb dX1_meanAge_72 (tgt := 16) (by decide) ?_
            refine W.widen (k := 0) (n := 0) (Nat.le_of_ble_eq_true rfl) (Nat.le_of_ble_eq_true rfl) ?_
            exact ih16 _ _ _ _ _ _ h _ _ _ hH (lv_sub hl [1, 2, 3, 4, 0] rfl)
          refine lv_iload hx hb dX1_meanAge_16 (lv_at hl 4 rfl) ?_
          refine lv_iconst (v := 3) hx hb dX1_meanAge_18 (by decide) ?_
          refine lv_icmp_ge hx hb dX1_meanAge_19 (tgt := 75) (by decide) (fun c_1 => ?_) (fun c_1 => ?_)
          · have h := h.1 c_1
            obtain ⟨i_2, ei_2⟩ : ∃ z, z = x4 + 1 := ⟨_, rfl⟩
            have h := h i_2 ei_2
            refine lv_iinc (k := 3) hx hb dX1_meanAge_75 hl rfl (v := i_2) (by rw [ei_2]; rfl) (by decide) (lv' := [(4, .int i_2), (0, va_rf (some a0)), (1, .long x1), (3, .int x3), (5, .int x5)]) rfl (fun ls hl => ?_)
            refine lv_goto hx hb dX1_meanAge_78 (tgt := 7) (by decide) ?_
            refine W.widen (k := 0) (n := 0) (Nat.le_of_ble_eq_true rfl) (Nat.le_of_ble_eq_true rfl) ?_
            exact ih7 _ _ _ _ _ h _ _ _ hH (lv_sub hl [1, 2, 3, 0] rfl)
          · have h := h.2 c_1
            refine lv_iload hx hb dX1_meanAge_22 (lv_at hl 4 rfl) ?_
            refine lv_iload hx hb dX1_meanAge_24 (lv_at hl 3 rfl) ?_
            refine lv_icmp_eq hx hb dX1_meanAge_26 (tgt := 69) (by decide) (fun c_3 => ?_) (fun c_3 => ?_)
            · have h := h.1 c_3
              refine W.widen (k := 0) (n := 0) (Nat.le_of_ble_eq_true rfl) (Nat.le_of_ble_eq_true rfl) ?_
              exact b69 _ _ _ _ _ _ h _ _ _ hH (lv_sub hl [0, 1, 2, 3, 4] rfl)
            · have h := h.2 c_3
              refine hx_aload_n C0 dX1_meanAge_29 rfl (lv_at hl 0 rfl) ?_
              refine hx_gR C0 hU hH (ci := 0) rfl in_X1 6 (by decide) q269 (fun _ h9 => h9) h dX1_meanAge_30 (fun r_4 h => ?_)
              refine lv_iload hx hb dX1_meanAge_33 (lv_at hl 3 rfl) ?_
              obtain ⟨b_5, rfl, h9⟩ := h
              have h := h9
              clear h9
              refine hx_aR C0 hU hH h dX1_meanAge_35 (fun r_6 h => ?_)
              refine lv_iload hx hb dX1_meanAge_36 (lv_at hl 4 rfl) ?_
              obtain ⟨b_7, rfl, h9⟩ := h
              have h := h9
              clear h9
              refine hx_aR C0 hU hH h dX1_meanAge_38 (fun r_8 h => ?_)
              obtain ⟨b_9, rfl, h9⟩ := h
              have h := h9
              clear h9
              refine hx_gRN C0 hU hH (ci := 2) rfl in_X3 2 (by decide) q228 (fun _ h9 => h9) h dX1_meanAge_39 (fun r_10 h => ?_)
              refine hx_ifnull C0 dX1_meanAge_42 (tgt := 69) (by decide) (fun c_11 => ?_) (fun c_11 => ?_)
              · have h := h.1 c_11
                refine W.widen (k := 0) (n := 0) (Nat.le_of_ble_eq_true rfl) (Nat.le_of_ble_eq_true rfl) ?_
                exact b69 _ _ _ _ _ _ h _ _ _ hH (lv_sub hl [0, 1, 2, 3, 4] rfl)
              · have h := h.2 c_11
                refine lv_lload_n hx hb dX1_meanAge_45 rfl (lv_at hl 1 rfl) ?_
                refine hx_aload_n C0 dX1_meanAge_46 rfl (lv_at hl 0 rfl) ?_
                refine hx_aload_n C0 dX1_meanAge_47 rfl (lv_at hl 0 rfl) ?_
                refine hx_gR C0 hU hH (ci := 0) rfl in_X1 6 (by decide) q269 (fun _ h9 => h9) h dX1_meanAge_48 (fun r_12 h => ?_)
                refine lv_iload hx hb dX1_meanAge_51 (lv_at hl 3 rfl) ?_
                obtain ⟨b_13, rfl, h9⟩ := h
                have h := h9
                clear h9
                refine hx_aR C0 hU hH h dX1_meanAge_53 (fun r_14 h => ?_)
                refine lv_iload hx hb dX1_meanAge_54 (lv_at hl 4 rfl) ?_
                obtain ⟨b_15, rfl, h9⟩ := h
                have h := h9
                clear h9
                refine hx_aR C0 hU hH h dX1_meanAge_56 (fun r_16 h => ?_)
                obtain ⟨b_17, rfl, h9⟩ := h
                have h := h9
                clear h9
                refine hx_gRN C0 hU hH (ci := 2) rfl in_X3 2 (by decide) q228 (fun _ h9 => h9) h dX1_meanAge_57 (fun r_18 h => ?_)
                obtain ⟨b_19, rfl, h9⟩ := h
                have h := h9
                clear h9
                obtain ⟨ho, h⟩ := h
                refine hx_Vi C0 hU hH (As := [va_rf (some b_19)]) (wk_X1_age l h) (cwV 1 hts (lw_V q314 q316 qs3 q60 q317) rfl rfl rfl (by decide +kernel) ⟨Nat.le_of_ble_eq_true rfl, Nat.le_of_ble_eq_true rfl⟩) (hx_recv hU hH (ci := 0) rfl ho) rfl hl.1 rfl (Nat.le_of_ble_eq_true rfl) dX1_meanAge_60 ⟨Nat.le_of_ble_eq_true rfl, Nat.le_of_ble_eq_true rfl⟩ (fun i_20 w H locs hH h => ?_)
                refine lv_i2l hx hb dX1_meanAge_63 rfl ?_
                refine lv_ladd hx hb dX1_meanAge_64 ?_
                refine lv_topl (fun l_21 el_21 => ?_)
                have h := h l_21 el_21
                refine lv_lstore_n hx hb dX1_meanAge_65 rfl hl (by decide) (lv' := [(1, .long l_21), (0, va_rf (some a0)), (3, .int x3), (4, .int x4), (5, .int x5)]) rfl (fun ls hl => ?_)
                obtain ⟨i_22, ei_22⟩ : ∃ z, z = x3 + 1 := ⟨_, rfl⟩
                have h := h i_22 ei_22
                refine lv_iinc (k := 2) hx hb dX1_meanAge_66 hl rfl (v := i_22) (by rw [ei_22]; rfl) (by decide) (lv' := [(3, .int i_22), (1, .long l_21), (0, va_rf (some a0)), (4, .int x4), (5, .int x5)]) rfl (fun ls hl => ?_)
                refine W.widen (k := 0) (n := 0) (Nat.le_of_ble_eq_true rfl) (Nat.le_of_ble_eq_true rfl) ?_
                exact b69 _ _ _ _ _ _ h _ _ _ hH (lv_sub hl [2, 1, 0, 3, 4] rfl)
      refine lv_iload hx hb dX1_meanAge_7 (lv_at hl 3 rfl) ?_
      refine lv_iconst (v := 3) hx hb dX1_meanAge_9 (by decide) ?_
      refine lv_icmp_ge hx hb dX1_meanAge_10 (tgt := 81) (by decide) (fun c_1 => ?_) (fun c_1 => ?_)
      · have h := h.1 c_1
        refine lv_iload_n hx hb dX1_meanAge_81 rfl (lv_at hl 2 rfl) ?_
        refine lv_if_ne hx hb dX1_meanAge_82 (tgt := 89) (by decide) (fun c_2 => ?_) (fun c_2 => ?_)
        · have h := h.2 c_2
          refine lv_lload_n hx hb dX1_meanAge_89 rfl (lv_at hl 1 rfl) ?_
          refine lv_l2d hx hb dX1_meanAge_90 ?_
          refine lv_iload_n hx hb dX1_meanAge_91 rfl (lv_at hl 2 rfl) ?_
          refine lv_i2d hx hb dX1_meanAge_92 ?_
          obtain ⟨hg, h⟩ := h
          refine lv_ddiv hx hb dX1_meanAge_93 hg ?_
          exact hx_retd C0 hH hr hlocks h (Nat.le_of_ble_eq_true rfl) (Nat.le_of_ble_eq_true rfl) dX1_meanAge_94
        · have h := h.1 c_2
          refine lv_dconst0 hx hb dX1_meanAge_85 ?_
          refine lv_goto hx hb dX1_meanAge_86 (tgt := 94) (by decide) ?_
          exact hx_retd C0 hH hr hlocks h (Nat.le_of_ble_eq_true rfl) (Nat.le_of_ble_eq_true rfl) dX1_meanAge_94
      · have h := h.2 c_1
        refine lv_iconst (v := 0) hx hb dX1_meanAge_13 (by decide) ?_
        refine lv_istore hx hb dX1_meanAge_14 hl (by decide) (lv' := [(5, .int (0 : Int32)), (0, va_rf (some a0)), (1, .long x1), (3, .int x3), (4, .int x4)]) rfl (fun ls hl => ?_)
        obtain ⟨n9, h⟩ := h
        refine W.widen (k := 0) (n := 0) (Nat.le_of_ble_eq_true rfl) (Nat.le_of_ble_eq_true rfl) ?_
        exact L16 n9 _ _ _ _ _ _ h _ _ _ hH (lv_sub hl [1, 2, 3, 4, 0] rfl)
  refine lv_lconst (v := 0) hx hb dX1_meanAge_0 (by decide) ?_
  refine lv_lstore_n hx hb dX1_meanAge_1 rfl hl (by decide) (lv' := [(1, .long (0 : Int64)), (0, va_rf (some a0))]) rfl (fun ls hl => ?_)
  refine lv_iconst (v := 0) hx hb dX1_meanAge_2 (by decide) ?_
  refine lv_istore_n hx hb dX1_meanAge_3 rfl hl (by decide) (lv' := [(3, .int (0 : Int32)), (1, .long (0 : Int64)), (0, va_rf (some a0))]) rfl (fun ls hl => ?_)
  refine lv_iconst (v := 0) hx hb dX1_meanAge_4 (by decide) ?_
  refine lv_istore hx hb dX1_meanAge_5 hl (by decide) (lv' := [(4, .int (0 : Int32)), (3, .int (0 : Int32)), (1, .long (0 : Int64)), (0, va_rf (some a0))]) rfl (fun ls hl => ?_)
  obtain ⟨n9, h⟩ := h
  refine W.widen (k := 0) (n := 0) (Nat.le_of_ble_eq_true rfl) (Nat.le_of_ble_eq_true rfl) ?_
  exact L7 n9 _ _ _ _ _ h _ _ _ hH (lv_sub hl [3, 2, 1, 0] rfl)
def wp_X1_checksum_s453 (K : Hp → Int64 → Prop)  (bk453 : Hp → Int64 → Nat → Int32 → Int32 → Prop) (w : Hp) (x1 : Int64) (a3 : Nat) (x4 : Int32) (x5 : Int32) : Prop :=
  br (x4 ≤ x5) (K w x1) (aI w a3 x5 fun i_2 => nm (((31 : Int64) * x1) + (i_2.toInt64)) fun l_3 => nm (x5 + 1) fun i_4 => bk453 w l_3 a3 x4 i_4)
def wp_X1_checksum_l453 (K : Hp → Int64 → Prop)  : ((Hp × Int64 × Nat × Int32 × Int32) → Prop) → (Hp × Int64 × Nat × Int32 × Int32) → Prop := fun bk q => wp_X1_checksum_s453 K  (fun w x1 a3 x4 x5 => bk (w, x1, a3, x4, x5)) q.1 q.2.1 q.2.2.1 q.2.2.2.1 q.2.2.2.2
def wp_X1_checksum_b453 (K : Hp → Int64 → Prop)  (w : Hp) (x1 : Int64) (a3 : Nat) (x4 : Int32) (x5 : Int32) : Prop := lp (wp_X1_checksum_l453 K ) (w, x1, a3, x4, x5)
def wp_X1_checksum_s410 (K : Hp → Int64 → Prop) (bk387 : Hp → Nat → Int64 → Option Nat → Prop) (bk410 : Hp → Nat → Int64 → Nat → Option Nat → Int32 → Prop) (w : Hp) (a0 : Nat) (x1 : Int64) (a3 : Nat) (r4 : Option Nat) (x5 : Int32) : Prop :=
  br ((9 : Int32) ≤ x5) (bk387 w a0 x1 (some a3)) (dR r4 fun b_2 => isO w b_2 4 <| wp_X5_tell w b_2 x5 fun w i_3 => nm (((31 : Int64) * x1) + (i_3.toInt64)) fun l_4 => nm (x5 + 1) fun i_5 => bk410 w a0 l_4 a3 (some b_2) i_5)
def wp_X1_checksum_l410 (K : Hp → Int64 → Prop) (bk387 : Hp → Nat → Int64 → Option Nat → Prop) : ((Hp × Nat × Int64 × Nat × Option Nat × Int32) → Prop) → (Hp × Nat × Int64 × Nat × Option Nat × Int32) → Prop := fun bk q => wp_X1_checksum_s410 K bk387 (fun w a0 x1 a3 r4 x5 => bk (w, a0, x1, a3, r4, x5)) q.1 q.2.1 q.2.2.1 q.2.2.2.1 q.2.2.2.2.1 q.2.2.2.2.2
def wp_X1_checksum_b410 (K : Hp → Int64 → Prop) (bk387 : Hp → Nat → Int64 → Option Nat → Prop) (w : Hp) (a0 : Nat) (x1 : Int64) (a3 : Nat) (r4 : Option Nat) (x5 : Int32) : Prop := lp (wp_X1_checksum_l410 K bk387) (w, a0, x1, a3, r4, x5)
def wp_X1_checksum_s387 (K : Hp → Int64 → Prop)  (bk387 : Hp → Nat → Int64 → Option Nat → Prop) (w : Hp) (a0 : Nat) (x1 : Int64) (r3 : Option Nat) : Prop :=
  dR r3 fun b_1 => isO w b_1 8 <| wp_J17_hasNext w b_1 fun w i_2 => br (i_2 = 0) (gR w a0 0 9 fun r_4 => dR r_4 fun b_5 => aN w b_5 fun i_6 => wp_X1_checksum_b453 K w x1 b_5 i_6 (0 : Int32)) (isO w b_1 8 <| wp_J17_next w b_1 fun w r_7 => ckO w r_7 4 <| wp_X1_checksum_b410 K bk387 w a0 x1 b_1 r_7 (0 : Int32))
def wp_X1_checksum_l387 (K : Hp → Int64 → Prop)  : ((Hp × Nat × Int64 × Option Nat) → Prop) → (Hp × Nat × Int64 × Option Nat) → Prop := fun bk q => wp_X1_checksum_s387 K  (fun w a0 x1 r3 => bk (w, a0, x1, r3)) q.1 q.2.1 q.2.2.1 q.2.2.2
def wp_X1_checksum_b387 (K : Hp → Int64 → Prop)  (w : Hp) (a0 : Nat) (x1 : Int64) (r3 : Option Nat) : Prop := lp (wp_X1_checksum_l387 K ) (w, a0, x1, r3)
def wp_X1_checksum_s336 (K : Hp → Int64 → Prop) (bk293 : Hp → Nat → Int64 → Int32 → Prop) (bk336 : Hp → Nat → Int64 → Int32 → Option Nat → Prop) (w : Hp) (a0 : Nat) (x1 : Int64) (x3 : Int32) (r4 : Option Nat) : Prop :=
  dR r4 fun b_1 => isO w b_1 8 <| wp_J17_hasNext w b_1 fun w i_2 => br (i_2 = 0) (nm (x3 + 1) fun i_4 => bk293 w a0 x1 i_4) (isO w b_1 8 <| wp_J17_next w b_1 fun w r_5 => ckI w r_5 <| dR r_5 fun b_6 => aI w b_6 (3 : Int32) fun i_7 => nm (((31 : Int64) * x1) + (i_7.toInt64)) fun l_8 => bk336 w a0 l_8 x3 (some b_1))
def wp_X1_checksum_l336 (K : Hp → Int64 → Prop) (bk293 : Hp → Nat → Int64 → Int32 → Prop) : ((Hp × Nat × Int64 × Int32 × Option Nat) → Prop) → (Hp × Nat × Int64 × Int32 × Option Nat) → Prop := fun bk q => wp_X1_checksum_s336 K bk293 (fun w a0 x1 x3 r4 => bk (w, a0, x1, x3, r4)) q.1 q.2.1 q.2.2.1 q.2.2.2.1 q.2.2.2.2
def wp_X1_checksum_b336 (K : Hp → Int64 → Prop) (bk293 : Hp → Nat → Int64 → Int32 → Prop) (w : Hp) (a0 : Nat) (x1 : Int64) (x3 : Int32) (r4 : Option Nat) : Prop := lp (wp_X1_checksum_l336 K bk293) (w, a0, x1, x3, r4)
def wp_X1_checksum_s293 (K : Hp → Int64 → Prop)  (bk293 : Hp → Nat → Int64 → Int32 → Prop) (w : Hp) (a0 : Nat) (x1 : Int64) (x3 : Int32) : Prop :=
  br ((3 : Int32) ≤ x3) (gR w a0 0 7 fun r_2 => dR r_2 fun b_3 => isO w b_3 7 <| wp_J2_iterator w b_3 fun w r_4 => wp_X1_checksum_b387 K w a0 x1 r_4) (gR w a0 0 8 fun r_5 => dR r_5 fun b_6 => isO w b_6 7 <| wp_J2_get w b_6 x3 fun w r_7 => ckO w r_7 7 <| dR r_7 fun b_8 => isO w b_8 7 <| wp_J2_size w b_8 fun w i_9 => nm (((31 : Int64) * x1) + (i_9.toInt64)) fun l_10 => gR w a0 0 8 fun r_11 => dR r_11 fun b_12 => isO w b_12 7 <| wp_J2_get w b_12 x3 fun w r_13 => ckO w r_13 7 <| dR r_13 fun b_14 => isO w b_14 7 <| wp_J2_iterator w b_14 fun w r_15 => wp_X1_checksum_b336 K bk293 w a0 l_10 x3 r_15)
def wp_X1_checksum_l293 (K : Hp → Int64 → Prop)  : ((Hp × Nat × Int64 × Int32) → Prop) → (Hp × Nat × Int64 × Int32) → Prop := fun bk q => wp_X1_checksum_s293 K  (fun w a0 x1 x3 => bk (w, a0, x1, x3)) q.1 q.2.1 q.2.2.1 q.2.2.2
def wp_X1_checksum_b293 (K : Hp → Int64 → Prop)  (w : Hp) (a0 : Nat) (x1 : Int64) (x3 : Int32) : Prop := lpN (wp_X1_checksum_l293 K ) 4 (w, a0, x1, x3)
def wp_X1_checksum_b279 (K : Hp → Int64 → Prop) (bk84 : Hp → Nat → Int64 → Int32 → Prop) (bk92 : Hp → Nat → Int64 → Int32 → Int32 → Prop) (w : Hp) (a0 : Nat) (x1 : Int64) (x3 : Int32) (x4 : Int32) : Prop :=
  nm (x4 + 1) fun i_1 => bk92 w a0 x1 x3 i_1
def wp_X1_checksum_b273 (K : Hp → Int64 → Prop) (bk84 : Hp → Nat → Int64 → Int32 → Prop) (bk92 : Hp → Nat → Int64 → Int32 → Int32 → Prop) (bk188 : Hp → Nat → Int64 → Int32 → Int32 → Nat → Int32 → Prop) (w : Hp) (a0 : Nat) (x1 : Int64) (x3 : Int32) (x4 : Int32) (a5 : Nat) (x6 : Int32) : Prop :=
  nm (x6 + 1) fun i_1 => bk188 w a0 x1 x3 x4 a5 i_1
def wp_X1_checksum_s188 (K : Hp → Int64 → Prop) (bk84 : Hp → Nat → Int64 → Int32 → Prop) (bk92 : Hp → Nat → Int64 → Int32 → Int32 → Prop) (bk188 : Hp → Nat → Int64 → Int32 → Int32 → Nat → Int32 → Prop) (w : Hp) (a0 : Nat) (x1 : Int64) (x3 : Int32) (x4 : Int32) (a5 : Nat) (x6 : Int32) : Prop :=
  br ((3 : Int32) ≤ x6) (wp_X1_checksum_b279 K bk84 bk92 w a0 x1 x3 x4) (isO w a5 2 <| wp_X3_session w a5 x6 fun w r_2 => br (r_2 = none) (nm (((31 : Int64) * x1) + (-1 : Int64)) fun l_13 => wp_X1_checksum_b273 K bk84 bk92 bk188 w a0 l_13 x3 x4 a5 x6) (dR r_2 fun b_4 => gI w b_4 6 0 fun i_5 => nm (((31 : Int64) * x1) + (i_5.toInt64)) fun l_6 => gI w b_4 6 3 fun i_7 => nm (((31 : Int64) * l_6) + (i_7.toInt64)) fun l_8 => gI w b_4 6 7 fun i_9 => nm (((31 : Int64) * l_8) + (i_9.toInt64)) fun l_10 => gI w b_4 6 9 fun i_11 => nm (((31 : Int64) * l_10) + (i_11.toInt64)) fun l_12 => wp_X1_checksum_b273 K bk84 bk92 bk188 w a0 l_12 x3 x4 a5 x6))
def wp_X1_checksum_l188 (K : Hp → Int64 → Prop) (bk84 : Hp → Nat → Int64 → Int32 → Prop) (bk92 : Hp → Nat → Int64 → Int32 → Int32 → Prop) : ((Hp × Nat × Int64 × Int32 × Int32 × Nat × Int32) → Prop) → (Hp × Nat × Int64 × Int32 × Int32 × Nat × Int32) → Prop := fun bk q => wp_X1_checksum_s188 K bk84 bk92 (fun w a0 x1 x3 x4 a5 x6 => bk (w, a0, x1, x3, x4, a5, x6)) q.1 q.2.1 q.2.2.1 q.2.2.2.1 q.2.2.2.2.1 q.2.2.2.2.2.1 q.2.2.2.2.2.2
def wp_X1_checksum_b188 (K : Hp → Int64 → Prop) (bk84 : Hp → Nat → Int64 → Int32 → Prop) (bk92 : Hp → Nat → Int64 → Int32 → Int32 → Prop) (w : Hp) (a0 : Nat) (x1 : Int64) (x3 : Int32) (x4 : Int32) (a5 : Nat) (x6 : Int32) : Prop := lp (wp_X1_checksum_l188 K bk84 bk92) (w, a0, x1, x3, x4, a5, x6)
def wp_X1_checksum_b156 (K : Hp → Int64 → Prop) (bk84 : Hp → Nat → Int64 → Int32 → Prop) (bk92 : Hp → Nat → Int64 → Int32 → Int32 → Prop) (w : Hp) (a0 : Nat) (x3 : Int32) (x4 : Int32) (a5 : Nat) (t0 : Int32) (t1 : Int64) : Prop :=
  nm (t1 + (t0.toInt64)) fun l_1 => gI w a5 2 5 fun i_2 => nm (((31 : Int64) * l_1) + (i_2.toInt64)) fun l_3 => gI w a5 2 10 fun i_4 => nm (((31 : Int64) * l_3) + (i_4.toInt64)) fun l_5 => wp_X1_checksum_b188 K bk84 bk92 w a0 l_5 x3 x4 a5 (0 : Int32)
def wp_X1_checksum_s92 (K : Hp → Int64 → Prop) (bk84 : Hp → Nat → Int64 → Int32 → Prop) (bk92 : Hp → Nat → Int64 → Int32 → Int32 → Prop) (w : Hp) (a0 : Nat) (x1 : Int64) (x3 : Int32) (x4 : Int32) : Prop :=
  br ((3 : Int32) ≤ x4) (nm (x3 + 1) fun i_2 => bk84 w a0 x1 i_2) (br (x4 = x3) (wp_X1_checksum_b279 K bk84 bk92 w a0 x1 x3 x4) (gR w a0 0 6 fun r_4 => dR r_4 fun b_5 => aR w b_5 x3 fun r_6 => dR r_6 fun b_7 => aR w b_7 x4 fun r_8 => dR r_8 fun b_9 => gI w b_9 2 0 fun i_10 => nm (((31 : Int64) * x1) + (i_10.toInt64)) fun l_11 => gR w b_9 2 4 fun r_12 => br (r_12 = none) (wp_X1_checksum_b156 K bk84 bk92 w a0 x3 x4 b_9 (-1 : Int32) ((31 : Int64) * l_11)) (gR w b_9 2 4 fun r_14 => dR r_14 fun b_15 => gI w b_15 5 0 fun i_16 => wp_X1_checksum_b156 K bk84 bk92 w a0 x3 x4 b_9 i_16 ((31 : Int64) * l_11))))
def wp_X1_checksum_l92 (K : Hp → Int64 → Prop) (bk84 : Hp → Nat → Int64 → Int32 → Prop) : ((Hp × Nat × Int64 × Int32 × Int32) → Prop) → (Hp × Nat × Int64 × Int32 × Int32) → Prop := fun bk q => wp_X1_checksum_s92 K bk84 (fun w a0 x1 x3 x4 => bk (w, a0, x1, x3, x4)) q.1 q.2.1 q.2.2.1 q.2.2.2.1 q.2.2.2.2
def wp_X1_checksum_b92 (K : Hp → Int64 → Prop) (bk84 : Hp → Nat → Int64 → Int32 → Prop) (w : Hp) (a0 : Nat) (x1 : Int64) (x3 : Int32) (x4 : Int32) : Prop := lp (wp_X1_checksum_l92 K bk84) (w, a0, x1, x3, x4)
def wp_X1_checksum_s84 (K : Hp → Int64 → Prop)  (bk84 : Hp → Nat → Int64 → Int32 → Prop) (w : Hp) (a0 : Nat) (x1 : Int64) (x3 : Int32) : Prop :=
  br ((3 : Int32) ≤ x3) (wp_X1_checksum_b293 K w a0 x1 (0 : Int32)) (wp_X1_checksum_b92 K bk84 w a0 x1 x3 (0 : Int32))
def wp_X1_checksum_l84 (K : Hp → Int64 → Prop)  : ((Hp × Nat × Int64 × Int32) → Prop) → (Hp × Nat × Int64 × Int32) → Prop := fun bk q => wp_X1_checksum_s84 K  (fun w a0 x1 x3 => bk (w, a0, x1, x3)) q.1 q.2.1 q.2.2.1 q.2.2.2
def wp_X1_checksum_b84 (K : Hp → Int64 → Prop)  (w : Hp) (a0 : Nat) (x1 : Int64) (x3 : Int32) : Prop := lp (wp_X1_checksum_l84 K ) (w, a0, x1, x3)
def wp_X1_checksum_b56 (K : Hp → Int64 → Prop) (bk18 : Hp → Nat → Int64 → Int32 → Prop) (w : Hp) (a0 : Nat) (x3 : Int32) (t0 : Int32) (t1 : Int64) : Prop :=
  nm (t1 + (t0.toInt64)) fun l_1 => gR w a0 0 5 fun r_2 => dR r_2 fun b_3 => aR w b_3 x3 fun r_4 => dR r_4 fun b_5 => gI w b_5 1 3 fun i_6 => nm (((31 : Int64) * l_1) + (i_6.toInt64)) fun l_7 => nm (x3 + 1) fun i_8 => bk18 w a0 l_7 i_8
def wp_X1_checksum_s18 (K : Hp → Int64 → Prop)  (bk18 : Hp → Nat → Int64 → Int32 → Prop) (w : Hp) (a0 : Nat) (x1 : Int64) (x3 : Int32) : Prop :=
  br ((3 : Int32) ≤ x3) (wp_X1_checksum_b84 K w a0 x1 (0 : Int32)) (gR w a0 0 3 fun r_2 => dR r_2 fun b_3 => aI w b_3 x3 fun i_4 => nm (((31 : Int64) * x1) + (i_4.toInt64)) fun l_5 => gR w a0 0 4 fun r_6 => dR r_6 fun b_7 => aZ w b_7 x3 fun i_8 => br (i_8 = 0) (wp_X1_checksum_b56 K bk18 w a0 x3 (0 : Int32) ((31 : Int64) * l_5)) (wp_X1_checksum_b56 K bk18 w a0 x3 (1 : Int32) ((31 : Int64) * l_5)))
def wp_X1_checksum_l18 (K : Hp → Int64 → Prop)  : ((Hp × Nat × Int64 × Int32) → Prop) → (Hp × Nat × Int64 × Int32) → Prop := fun bk q => wp_X1_checksum_s18 K  (fun w a0 x1 x3 => bk (w, a0, x1, x3)) q.1 q.2.1 q.2.2.1 q.2.2.2
def wp_X1_checksum_b18 (K : Hp → Int64 → Prop)  (w : Hp) (a0 : Nat) (x1 : Int64) (x3 : Int32) : Prop := lp (wp_X1_checksum_l18 K ) (w, a0, x1, x3)
def wp_X1_checksum (w : Hp) (a0 : Nat) (K : Hp → Int64 → Prop) : Prop :=
  gI w a0 0 0 fun i_1 => nm (((31 : Int64) * (31 : Int64)) + (i_1.toInt64)) fun l_2 => wp_X1_checksum_b18 K w a0 l_2 (0 : Int32)
abbrev rm_X1_checksum : Room := { frames := 3, cells := 5, slots := 20, locals := 64 }
abbrev ws9_X1_checksum : List Cond := ws_ yX1_checksum cX1_checksum 8 (Option.some Jvm.ClassFile.FieldType.long)
abbrev Q9_X1_checksum (below : List Frame) (args : Array Value) (s : State) (G : hG) (K : Hp → Int64 → Prop) : State → Prop := MQ below (hx_Ql G K) args s 5 20 (hx_A G)
set_option maxHeartbeats 4000000 in
set_option maxRecDepth 100000 in
theorem wk_X1_checksum (l : Launch) {G : hG} {w : Hp} {a0 : Nat} {K : Hp → Int64 → Prop} (h : wp_X1_checksum w a0 K) : hx_Ml l yX1_checksum (ws9_X1_checksum) rm_X1_checksum G w [.ref a0] K 5 20 := by
  refine Met.ofW (cc := cX1_checksum) (maxL := 8) (ret := (Option.some Jvm.ClassFile.FieldType.long)) (by decide +kernel) rfl ?_
  intro p e s m args below meth c s₁ B hml hv
  refine hx_in (own := RX1) (av := [.ref a0]) (vl := [(0, va_rf (some a0))]) rfl rfl (Nat.le_of_ble_eq_true rfl) rfl B hml hv ?_
  intro C0 hU hH hr hlocks hin ls hl
  have hx := C0.1
  have hb := C0.2.1
  have hts := C0.2.2.2.2
  have L453 : ∀ (n453 : Nat) (w : Hp) (x1 : Int64) (a3 : Nat) (x4 : Int32) (x5 : Int32), lpN (wp_X1_checksum_l453 K ) n453 (w, x1, a3, x4, x5) → ∀ (H : Heap) (locs : List Loc) (ls : Array Slot), hx_H G w s H locs → lv_has ls 8 [(1, .long x1), (3, va_rf (some a3)), (4, .int x4), (5, .int x5)] → W p l e (headSpec (ws9_X1_checksum) rm_X1_checksum).room s m args below meth c H locs (5) (20) (Q9_X1_checksum below args s G K) (F0 m 453 ls []) := by
    intro n453
    induction n453 with
    | zero => intro w x1 a3 x4 x5 h; exact h.elim
    | succ n453 ih453 =>
      intro w x1 a3 x4 x5 h H locs ls hH hl
      have h : wp_X1_checksum_s453 K  (fun w x1 a3 x4 x5 => lpN (wp_X1_checksum_l453 K ) n453 (w, x1, a3, x4, x5)) w x1 a3 x4 x5 := h
      refine lv_iload hx hb dX1_checksum_453 (lv_at hl 3 rfl) ?_
      refine lv_iload hx hb dX1_checksum_455 (lv_at hl 2 rfl) ?_
      refine lv_icmp_ge hx hb dX1_checksum_457 (tgt := 482) (by decide) (fun c_1 => ?_) (fun c_1 => ?_)
      · have h := h.1 c_1
        refine lv_lload_n hx hb dX1_checksum_482 rfl (lv_at hl 0 rfl) ?_
        exact hx_retl C0 hH hr hlocks h (Nat.le_of_ble_eq_true rfl) (Nat.le_of_ble_eq_true rfl) dX1_checksum_483
      · have h := h.2 c_1
        refine hx_aload_n C0 dX1_checksum_460 rfl (lv_at hl 1 rfl) ?_
        refine lv_iload hx hb dX1_checksum_461 (lv_at hl 3 rfl) ?_
        refine hx_aI C0 hU hH h dX1_checksum_463 (fun i_2 h => ?_)
        refine lv_istore hx hb dX1_checksum_464 hl (by decide) (lv' := [(6, .int i_2), (1, .long x1), (3, va_rf (some a3)), (4, .int x4), (5, .int x5)]) rfl (fun ls hl => ?_)
        refine lv_ldc2 (v := 31) hx hb C0.2.2.2.1 (hts _ q466) dX1_checksum_466 ?_
        refine lv_lload_n hx hb dX1_checksum_469 rfl (lv_at hl 1 rfl) ?_
        refine lv_lmul hx hb dX1_checksum_470 ?_
        refine lv_iload hx hb dX1_checksum_471 (lv_at hl 0 rfl) ?_
        refine lv_i2l hx hb dX1_checksum_473 rfl ?_
        refine lv_ladd hx hb dX1_checksum_474 ?_
        refine lv_topl (fun l_3 el_3 => ?_)
        have h := h l_3 el_3
        refine lv_lstore_n hx hb dX1_checksum_475 rfl hl (by decide) (lv' := [(1, .long l_3), (6, .int i_2), (3, va_rf (some a3)), (4, .int x4), (5, .int x5)]) rfl (fun ls hl => ?_)
        obtain ⟨i_4, ei_4⟩ : ∃ z, z = x5 + 1 := ⟨_, rfl⟩
        have h := h i_4 ei_4
        refine lv_iinc (k := 4) hx hb dX1_checksum_476 hl rfl (v := i_4) (by rw [ei_4]; rfl) (by decide) (lv' := [(5, .int i_4), (1, .long l_3), (6, .int i_2), (3, va_rf (some a3)), (4, .int x4)]) rfl (fun ls hl => ?_)
        refine lv_goto hx hb dX1_checksum_479 (tgt := 453) (by decide) ?_
        refine W.widen (k := 5) (n := 20) (Nat.le_of_ble_eq_true rfl) (Nat.le_of_ble_eq_true rfl) ?_
        exact ih453 _ _ _ _ _ h _ _ _ hH (lv_sub hl [1, 3, 4, 0] rfl)
  have L387 : ∀ (n387 : Nat) (w : Hp) (a0 : Nat) (x1 : Int64) (r3 : Option Nat), lpN (wp_X1_checksum_l387 K ) n387 (w, a0, x1, r3) → ∀ (H : Heap) (locs : List Loc) (ls : Array Slot), hx_H G w s H locs → lv_has ls 8 [(0, va_rf (some a0)), (1, .long x1), (3, va_rf r3)] → W p l e (headSpec (ws9_X1_checksum) rm_X1_checksum).room s m args below meth c H locs (5) (20) (Q9_X1_checksum below args s G K) (F0 m 387 ls []) := by
    intro n387
    induction n387 with
    | zero => intro w a0 x1 r3 h; exact h.elim
    | succ n387 ih387 =>
      intro w a0 x1 r3 h H locs ls hH hl
      have h : wp_X1_checksum_s387 K  (fun w a0 x1 r3 => lpN (wp_X1_checksum_l387 K ) n387 (w, a0, x1, r3)) w a0 x1 r3 := h
      have L410 : ∀ (n410 : Nat) (w : Hp) (a0 : Nat) (x1 : Int64) (a3 : Nat) (r4 : Option Nat) (x5 : Int32), lpN (wp_X1_checksum_l410 K (fun w a0 x1 r3 => lpN (wp_X1_checksum_l387 K ) n387 (w, a0, x1, r3))) n410 (w, a0, x1, a3, r4, x5) → ∀ (H : Heap) (locs : List Loc) (ls : Array Slot), hx_H G w s H locs → lv_has ls 8 [(0, va_rf (some a0)), (1, .long x1), (3, va_rf (some a3)), (4, va_rf r4), (5, .int x5)] → W p l e (headSpec (ws9_X1_checksum) rm_X1_checksum).room s m args below meth c H locs (5) (20) (Q9_X1_checksum below args s G K) (F0 m 410 ls []) := by
        intro n410
        induction n410 with
        | zero => intro w a0 x1 a3 r4 x5 h; exact h.elim
        | succ n410 ih410 =>
          intro w a0 x1 a3 r4 x5 h H locs ls hH hl
          have h : wp_X1_checksum_s410 K (fun w a0 x1 r3 => lpN (wp_X1_checksum_l387 K ) n387 (w, a0, x1, r3)) (fun w a0 x1 a3 r4 x5 => lpN (wp_X1_checksum_l410 K (fun w a0 x1 r3 => lpN (wp_X1_checksum_l387 K ) n387 (w, a0, x1, r3))) n410 (w, a0, x1, a3, r4, x5)) w a0 x1 a3 r4 x5 := h
          refine lv_iload hx hb dX1_checksum_410 (lv_at hl 4 rfl) ?_
          refine lv_bipush (v := 9) hx hb dX1_checksum_412 (by decide) ?_
          refine lv_icmp_ge hx hb dX1_checksum_414 (tgt := 438) (by decide) (fun c_1 => ?_) (fun c_1 => ?_)
          · have h := h.1 c_1
            refine lv_goto hx hb dX1_checksum_438 (tgt := 387) (by decide) ?_
            refine W.widen (k := 5) (n := 20) (Nat.le_of_ble_eq_true rfl) (Nat.le_of_ble_eq_true rfl) ?_
            exact ih387 _ _ _ _ h _ _ _ hH (lv_sub hl [0, 1, 2] rfl)
          · have h := h.2 c_1
            refine lv_ldc2 (v := 31) hx hb C0.2.2.2.1 (hts _ q466) dX1_checksum_417 ?_
            refine lv_lload_n hx hb dX1_checksum_420 rfl (lv_at hl 1 rfl) ?_
            refine lv_lmul hx hb dX1_checksum_421 ?_
            refine hx_aload C0 dX1_checksum_422 (lv_at hl 3 rfl) ?_
            refine lv_iload hx hb dX1_checksum_424 (lv_at hl 4 rfl) ?_
            obtain ⟨b_2, rfl, h9⟩ := h
            have h := h9
            clear h9
            obtain ⟨ho, h⟩ := h
            refine hx_VNi C0 hU hH (As := [.int x5]) (wk_X5_tell l h) ⟨va_cnB 1 hts (lw_meth q486) rfl rfl rfl (hU.2.2.1 _ q483 rfl) (hts _ q81) (by decide +kernel) ⟨Nat.le_of_ble_eq_true rfl, Nat.le_of_ble_eq_true rfl⟩, hts _ q485, hts _ qs9⟩ (hx_recv hU hH (ci := 4) rfl ho) rfl hl.1 rfl (Nat.le_of_ble_eq_true rfl) dX1_checksum_426 ⟨Nat.le_of_ble_eq_true rfl, Nat.le_of_ble_eq_true rfl⟩ (fun i_3 w H locs hH h => ?_)
            refine lv_i2l hx hb dX1_checksum_429 rfl ?_
            refine lv_ladd hx hb dX1_checksum_430 ?_
            refine lv_topl (fun l_4 el_4 => ?_)
            have h := h l_4 el_4
            refine lv_lstore_n hx hb dX1_checksum_431 rfl hl (by decide) (lv' := [(1, .long l_4), (0, va_rf (some a0)), (3, va_rf (some a3)), (4, va_rf (some b_2)), (5, .int x5)]) rfl (fun ls hl => ?_)
            obtain ⟨i_5, ei_5⟩ : ∃ z, z = x5 + 1 := ⟨_, rfl⟩
            have h := h i_5 ei_5
            refine lv_iinc (k := 4) hx hb dX1_checksum_432 hl rfl (v := i_5) (by rw [ei_5]; rfl) (by decide) (lv' := [(5, .int i_5), (1, .long l_4), (0, va_rf (some a0)), (3, va_rf (some a3)), (4, va_rf (some b_2))]) rfl (fun ls hl => ?_)
            refine lv_goto hx hb dX1_checksum_435 (tgt := 410) (by decide) ?_
            refine W.widen (k := 5) (n := 20) (Nat.le_of_ble_eq_true rfl) (Nat.le_of_ble_eq_true rfl) ?_
            exact ih410 _ _ _ _ _ _ h _ _ _ hH (lv_sub hl [2, 1, 3, 4, 0] rfl)
      refine hx_aload_n C0 dX1_checksum_387 rfl (lv_at hl 2 rfl) ?_
      obtain ⟨b_1, rfl, h9⟩ := h
      have h := h9
      clear h9
      obtain ⟨ho, h⟩ := h
      refine hx_Fi C0 hU hH (As := []) (wk_J17_hasNext l h) (hU.1.1 8 _ rfl).2 (va_cwF 0 hts (lw_F q350 q354 q356 q86 q358) rfl rfl rfl hU.2.2.2.2.1.1 (by decide +kernel) ⟨Nat.le_of_ble_eq_true rfl, Nat.le_of_ble_eq_true rfl⟩) (hx_recv hU hH (ci := 8) rfl ho) rfl hl.1 rfl (Nat.le_of_ble_eq_true rfl) dX1_checksum_388 ⟨Nat.le_of_ble_eq_true rfl, Nat.le_of_ble_eq_true rfl⟩ (fun i_2 w H locs hH h => ?_)
      refine lv_if_eq hx hb dX1_checksum_393 (tgt := 441) (by decide) (fun c_3 => ?_) (fun c_3 => ?_)
      · have h := h.1 c_3
        refine hx_aload_n C0 dX1_checksum_441 rfl (lv_at hl 0 rfl) ?_
        refine hx_gR C0 hU hH (ci := 0) rfl in_X1 9 (by decide) q272 (fun _ h9 => h9) h dX1_checksum_442 (fun r_4 h => ?_)
        refine hx_astore_n C0 dX1_checksum_445 rfl hl (by decide) (lv' := [(3, va_rf r_4), (0, va_rf (some a0)), (1, .long x1)]) rfl (fun ls hl => ?_)
        refine hx_aload_n C0 dX1_checksum_446 rfl (lv_at hl 0 rfl) ?_
        obtain ⟨b_5, rfl, h9⟩ := h
        have h := h9
        clear h9
        refine hx_aN C0 hU hH h dX1_checksum_447 (fun i_6 h => ?_)
        refine lv_istore hx hb dX1_checksum_448 hl (by decide) (lv' := [(4, .int i_6), (3, va_rf (some b_5)), (0, va_rf (some a0)), (1, .long x1)]) rfl (fun ls hl => ?_)
        refine lv_iconst (v := 0) hx hb dX1_checksum_450 (by decide) ?_
        refine lv_istore hx hb dX1_checksum_451 hl (by decide) (lv' := [(5, .int (0 : Int32)), (4, .int i_6), (3, va_rf (some b_5)), (0, va_rf (some a0)), (1, .long x1)]) rfl (fun ls hl => ?_)
        obtain ⟨n9, h⟩ := h
        refine W.widen (k := 5) (n := 20) (Nat.le_of_ble_eq_true rfl) (Nat.le_of_ble_eq_true rfl) ?_
        exact L453 n9 _ _ _ _ _ h _ _ _ hH (lv_sub hl [4, 2, 1, 0] rfl)
      · have h := h.2 c_3
        refine hx_aload_n C0 dX1_checksum_396 rfl (lv_at hl 2 rfl) ?_
        obtain ⟨ho, h⟩ := h
        refine hx_Fq C0 hU hH (As := []) (wk_J17_next l h) (hU.1.1 8 _ rfl).2 (va_cwF 0 hts (lw_F q360 q363 q365 q86 q367) rfl rfl rfl hU.2.2.2.2.1.2 (by decide +kernel) ⟨Nat.le_of_ble_eq_true rfl, Nat.le_of_ble_eq_true rfl⟩) (hx_recv hU hH (ci := 8) rfl ho) rfl hl.1 rfl (Nat.le_of_ble_eq_true rfl) dX1_checksum_397 ⟨Nat.le_of_ble_eq_true rfl, Nat.le_of_ble_eq_true rfl⟩ (fun r_7 w H locs hH h => ?_)
        refine hx_ckO C0 hU hH (ci := 4) rfl q444 h dX1_checksum_402 (fun h => ?_)
        refine hx_astore C0 dX1_checksum_405 hl (by decide) (lv' := [(4, va_rf r_7), (0, va_rf (some a0)), (1, .long x1), (3, va_rf (some b_1))]) rfl (fun ls hl => ?_)
        refine lv_iconst (v := 0) hx hb dX1_checksum_407 (by decide) ?_
        refine lv_istore hx hb dX1_checksum_408 hl (by decide) (lv' := [(5, .int (0 : Int32)), (4, va_rf r_7), (0, va_rf (some a0)), (1, .long x1), (3, va_rf (some b_1))]) (by cases r_7 <;> rfl) (fun ls hl => ?_)
        obtain ⟨n9, h⟩ := h
        refine W.widen (k := 5) (n := 20) (Nat.le_of_ble_eq_true rfl) (Nat.le_of_ble_eq_true rfl) ?_
        exact L410 n9 _ _ _ _ _ _ h _ _ _ hH (lv_sub hl [2, 3, 4, 1, 0] rfl)
  have L293 : ∀ (n293 cl293 sl293 : Nat), cl293 + n293 * 1 ≤ 4 → sl293 + n293 * 4 ≤ 16 → ∀ (w : Hp) (a0 : Nat) (x1 : Int64) (x3 : Int32), lpN (wp_X1_checksum_l293 K ) n293 (w, a0, x1, x3) → ∀ (H : Heap) (locs : List Loc) (ls : Array Slot), hx_H G w s H locs → lv_has ls 8 [(0, va_rf (some a0)), (1, .long x1), (3, .int x3)] → W p l e (headSpec (ws9_X1_checksum) rm_X1_checksum).room s m args below meth c H locs (cl293 + 0) (sl293 + 0) (Q9_X1_checksum below args s G K) (F0 m 293 ls []) := by
    intro n293
    induction n293 with
    | zero => intro cl293 sl293 _ _ w a0 x1 x3 h; exact h.elim
    | succ n293 ih293 =>
      intro cl293 sl293 hcl293 hsl293 w a0 x1 x3 h H locs ls hH hl
      have h : wp_X1_checksum_s293 K  (fun w a0 x1 x3 => lpN (wp_X1_checksum_l293 K ) n293 (w, a0, x1, x3)) w a0 x1 x3 := h
      have L336 : ∀ (n336 : Nat) (w : Hp) (a0 : Nat) (x1 : Int64) (x3 : Int32) (r4 : Option Nat), lpN (wp_X1_checksum_l336 K (fun w a0 x1 x3 => lpN (wp_X1_checksum_l293 K ) n293 (w, a0, x1, x3))) n336 (w, a0, x1, x3, r4) → ∀ (H : Heap) (locs : List Loc) (ls : Array Slot), hx_H G w s H locs → lv_has ls 8 [(0, va_rf (some a0)), (1, .long x1), (3, .int x3), (4, va_rf r4)] → W p l e (headSpec (ws9_X1_checksum) rm_X1_checksum).room s m args below meth c H locs (cl293 + 1) (sl293 + 4) (Q9_X1_checksum below args s G K) (F0 m 336 ls []) := by
        intro n336
        induction n336 with
        | zero => intro w a0 x1 x3 r4 h; exact h.elim
        | succ n336 ih336 =>
          intro w a0 x1 x3 r4 h H locs ls hH hl
          have h : wp_X1_checksum_s336 K (fun w a0 x1 x3 => lpN (wp_X1_checksum_l293 K ) n293 (w, a0, x1, x3)) (fun w a0 x1 x3 r4 => lpN (wp_X1_checksum_l336 K (fun w a0 x1 x3 => lpN (wp_X1_checksum_l293 K ) n293 (w, a0, x1, x3))) n336 (w, a0, x1, x3, r4)) w a0 x1 x3 r4 := h
          refine hx_aload C0 dX1_checksum_336 (lv_at hl 3 rfl) ?_
          obtain ⟨b_1, rfl, h9⟩ := h
          have h := h9
          clear h9
          obtain ⟨ho, h⟩ := h
          refine hx_Fi C0 hU hH (As := []) (wk_J17_hasNext l h) (hU.1.1 8 _ rfl).2 (va_cwF 0 hts (lw_F q350 q354 q356 q86 q358) rfl rfl rfl hU.2.2.2.2.1.1 (by decide +kernel) ⟨Nat.le_of_ble_eq_true rfl, Nat.le_of_ble_eq_true rfl⟩) (hx_recv hU hH (ci := 8) rfl ho) rfl hl.1 rfl (Nat.le_of_ble_eq_true rfl) dX1_checksum_338 ⟨(show _ ≤ 5 by omega), (show _ ≤ 20 by omega)⟩ (fun i_2 w H locs hH h => ?_)
          refine lv_if_eq hx hb dX1_checksum_343 (tgt := 373) (by decide) (fun c_3 => ?_) (fun c_3 => ?_)
          · have h := h.1 c_3
            obtain ⟨i_4, ei_4⟩ : ∃ z, z = x3 + 1 := ⟨_, rfl⟩
            have h := h i_4 ei_4
            refine lv_iinc (k := 2) hx hb dX1_checksum_373 hl rfl (v := i_4) (by rw [ei_4]; rfl) (by decide) (lv' := [(3, .int i_4), (0, va_rf (some a0)), (1, .long x1), (4, va_rf (some b_1))]) rfl (fun ls hl => ?_)
            refine lv_goto hx hb dX1_checksum_376 (tgt := 293) (by decide) ?_
            refine W.widen (k := cl293 + 1) (n := sl293 + 4) (by omega) (by omega) ?_
            exact ih293 _ _ (by omega) (by omega) _ _ _ _ h _ _ _ hH (lv_sub hl [1, 2, 0] rfl)
          · have h := h.2 c_3
            refine hx_aload C0 dX1_checksum_346 (lv_at hl 3 rfl) ?_
            obtain ⟨ho, h⟩ := h
            refine hx_Fq C0 hU hH (As := []) (wk_J17_next l h) (hU.1.1 8 _ rfl).2 (va_cwF 0 hts (lw_F q360 q363 q365 q86 q367) rfl rfl rfl hU.2.2.2.2.1.2 (by decide +kernel) ⟨Nat.le_of_ble_eq_true rfl, Nat.le_of_ble_eq_true rfl⟩) (hx_recv hU hH (ci := 8) rfl ho) rfl hl.1 rfl (Nat.le_of_ble_eq_true rfl) dX1_checksum_348 ⟨(show _ ≤ 5 by omega), (show _ ≤ 20 by omega)⟩ (fun r_5 w H locs hH h => ?_)
            refine hx_ckI C0 hU hH q482 h dX1_checksum_353 (fun h => ?_)
            refine hx_astore C0 dX1_checksum_356 hl (by decide) (lv' := [(5, va_rf r_5), (0, va_rf (some a0)), (1, .long x1), (3, .int x3), (4, va_rf (some b_1))]) rfl (fun ls hl => ?_)
            refine lv_ldc2 (v := 31) hx hb C0.2.2.2.1 (hts _ q466) dX1_checksum_358 ?_
            refine lv_lload_n hx hb dX1_checksum_361 rfl (lv_at hl 2 rfl) ?_
            refine lv_lmul hx hb dX1_checksum_362 ?_
            refine hx_aload C0 dX1_checksum_363 (lv_at hl 0 rfl) ?_
            refine lv_iconst (v := 3) hx hb dX1_checksum_365 (by decide) ?_
            obtain ⟨b_6, rfl, h9⟩ := h
            have h := h9
            clear h9
            refine hx_aI C0 hU hH h dX1_checksum_366 (fun i_7 h => ?_)
            refine lv_i2l hx hb dX1_checksum_367 rfl ?_
            refine lv_ladd hx hb dX1_checksum_368 ?_
            refine lv_topl (fun l_8 el_8 => ?_)
            have h := h l_8 el_8
            refine lv_lstore_n hx hb dX1_checksum_369 rfl hl (by decide) (lv' := [(1, .long l_8), (5, va_rf (some b_6)), (0, va_rf (some a0)), (3, .int x3), (4, va_rf (some b_1))]) rfl (fun ls hl => ?_)
            refine lv_goto hx hb dX1_checksum_370 (tgt := 336) (by decide) ?_
            refine W.widen (k := cl293 + 1) (n := sl293 + 4) (by omega) (by omega) ?_
            exact ih336 _ _ _ _ _ h _ _ _ hH (lv_sub hl [2, 0, 3, 4] rfl)
      refine lv_iload_n hx hb dX1_checksum_293 rfl (lv_at hl 2 rfl) ?_
      refine lv_iconst (v := 3) hx hb dX1_checksum_294 (by decide) ?_
      refine lv_icmp_ge hx hb dX1_checksum_295 (tgt := 379) (by decide) (fun c_1 => ?_) (fun c_1 => ?_)
      · have h := h.1 c_1
        refine hx_aload_n C0 dX1_checksum_379 rfl (lv_at hl 0 rfl) ?_
        refine hx_gR C0 hU hH (ci := 0) rfl in_X1 7 (by decide) q270 (fun _ h9 => h9) h dX1_checksum_380 (fun r_2 h => ?_)
        obtain ⟨b_3, rfl, h9⟩ := h
        have h := h9
        clear h9
        obtain ⟨ho, h⟩ := h
        refine hx_Vq C0 hU hH (As := []) (wk_J2_iterator l h) (cwV 0 hts (lw_V q326 q327 q328 q63 q329) rfl rfl rfl (by decide +kernel) ⟨Nat.le_of_ble_eq_true rfl, Nat.le_of_ble_eq_true rfl⟩) (hx_recv hU hH (ci := 7) rfl ho) rfl hl.1 rfl (Nat.le_of_ble_eq_true rfl) dX1_checksum_383 ⟨(show _ ≤ 5 by omega), (show _ ≤ 20 by omega)⟩ (fun r_4 w H locs hH h => ?_)
        refine hx_astore_n C0 dX1_checksum_386 rfl hl (by decide) (lv' := [(3, va_rf r_4), (0, va_rf (some a0)), (1, .long x1)]) rfl (fun ls hl => ?_)
        obtain ⟨n9, h⟩ := h
        refine W.widen (k := 5) (n := 20) (by omega) (by omega) ?_
        exact L387 n9 _ _ _ _ h _ _ _ hH (lv_sub hl [1, 2, 0] rfl)
      · have h := h.2 c_1
        refine lv_ldc2 (v := 31) hx hb C0.2.2.2.1 (hts _ q466) dX1_checksum_298 ?_
        refine lv_lload_n hx hb dX1_checksum_301 rfl (lv_at hl 1 rfl) ?_
        refine lv_lmul hx hb dX1_checksum_302 ?_
        refine hx_aload_n C0 dX1_checksum_303 rfl (lv_at hl 0 rfl) ?_
        refine hx_gR C0 hU hH (ci := 0) rfl in_X1 8 (by decide) q271 (fun _ h9 => h9) h dX1_checksum_304 (fun r_5 h => ?_)
        refine lv_iload_n hx hb dX1_checksum_307 rfl (lv_at hl 2 rfl) ?_
        obtain ⟨b_6, rfl, h9⟩ := h
        have h := h9
        clear h9
        obtain ⟨ho, h⟩ := h
        refine hx_Vq C0 hU hH (As := [.int x3]) (wk_J2_get l h) (cwV 1 hts (lw_V q468 q469 q470 q63 q471) rfl rfl rfl (by decide +kernel) ⟨Nat.le_of_ble_eq_true rfl, Nat.le_of_ble_eq_true rfl⟩) (hx_recv hU hH (ci := 7) rfl ho) rfl hl.1 rfl (Nat.le_of_ble_eq_true rfl) dX1_checksum_308 ⟨(show _ ≤ 5 by omega), (show _ ≤ 20 by omega)⟩ (fun r_7 w H locs hH h => ?_)
        refine hx_ckO C0 hU hH (ci := 7) rfl q101 h dX1_checksum_311 (fun h => ?_)
        obtain ⟨b_8, rfl, h9⟩ := h
        have h := h9
        clear h9
        obtain ⟨ho, h⟩ := h
        refine hx_Vi C0 hU hH (As := []) (wk_J2_size l h) (cwV 0 hts (lw_V q302 q303 q304 q63 q305) rfl rfl rfl (by decide +kernel) ⟨Nat.le_of_ble_eq_true rfl, Nat.le_of_ble_eq_true rfl⟩) (hx_recv hU hH (ci := 7) rfl ho) rfl hl.1 rfl (Nat.le_of_ble_eq_true rfl) dX1_checksum_314 ⟨(show _ ≤ 5 by omega), (show _ ≤ 20 by omega)⟩ (fun i_9 w H locs hH h => ?_)
        refine lv_i2l hx hb dX1_checksum_317 rfl ?_
        refine lv_ladd hx hb dX1_checksum_318 ?_
        refine lv_topl (fun l_10 el_10 => ?_)
        have h := h l_10 el_10
        refine lv_lstore_n hx hb dX1_checksum_319 rfl hl (by decide) (lv' := [(1, .long l_10), (0, va_rf (some a0)), (3, .int x3)]) rfl (fun ls hl => ?_)
        refine hx_aload_n C0 dX1_checksum_320 rfl (lv_at hl 1 rfl) ?_
        refine hx_gR C0 hU hH (ci := 0) rfl in_X1 8 (by decide) q271 (fun _ h9 => h9) h dX1_checksum_321 (fun r_11 h => ?_)
        refine lv_iload_n hx hb dX1_checksum_324 rfl (lv_at hl 2 rfl) ?_
        obtain ⟨b_12, rfl, h9⟩ := h
        have h := h9
        clear h9
        obtain ⟨ho, h⟩ := h
        refine hx_Vq C0 hU hH (As := [.int x3]) (wk_J2_get l h) (cwV 1 hts (lw_V q468 q469 q470 q63 q471) rfl rfl rfl (by decide +kernel) ⟨Nat.le_of_ble_eq_true rfl, Nat.le_of_ble_eq_true rfl⟩) (hx_recv hU hH (ci := 7) rfl ho) rfl hl.1 rfl (Nat.le_of_ble_eq_true rfl) dX1_checksum_325 ⟨(show _ ≤ 5 by omega), (show _ ≤ 20 by omega)⟩ (fun r_13 w H locs hH h => ?_)
        refine hx_ckO C0 hU hH (ci := 7) rfl q101 h dX1_checksum_328 (fun h => ?_)
        obtain ⟨b_14, rfl, h9⟩ := h
        have h := h9
        clear h9
        obtain ⟨ho, h⟩ := h
        refine hx_Vq C0 hU hH (As := []) (wk_J2_iterator l h) (cwV 0 hts (lw_V q326 q327 q328 q63 q329) rfl rfl rfl (by decide +kernel) ⟨Nat.le_of_ble_eq_true rfl, Nat.le_of_ble_eq_true rfl⟩) (hx_recv hU hH (ci := 7) rfl ho) rfl hl.1 rfl (Nat.le_of_ble_eq_true rfl) dX1_checksum_331 ⟨(show _ ≤ 5 by omega), (show _ ≤ 20 by omega)⟩ (fun r_15 w H locs hH h => ?_)
        refine hx_astore C0 dX1_checksum_334 hl (by decide) (lv' := [(4, va_rf r_15), (1, .long l_10), (0, va_rf (some a0)), (3, .int x3)]) rfl (fun ls hl => ?_)
        obtain ⟨n9, h⟩ := h
        refine W.widen (k := cl293 + 1) (n := sl293 + 4) (by omega) (by omega) ?_
        exact L336 n9 _ _ _ _ _ h _ _ _ hH (lv_sub hl [2, 1, 3, 0] rfl)
  have L84 : ∀ (n84 : Nat) (w : Hp) (a0 : Nat) (x1 : Int64) (x3 : Int32), lpN (wp_X1_checksum_l84 K ) n84 (w, a0, x1, x3) → ∀ (H : Heap) (locs : List Loc) (ls : Array Slot), hx_H G w s H locs → lv_has ls 8 [(0, va_rf (some a0)), (1, .long x1), (3, .int x3)] → W p l e (headSpec (ws9_X1_checksum) rm_X1_checksum).room s m args below meth c H locs (0) (0) (Q9_X1_checksum below args s G K) (F0 m 84 ls []) := by
    intro n84
    induction n84 with
    | zero => intro w a0 x1 x3 h; exact h.elim
    | succ n84 ih84 =>
      intro w a0 x1 x3 h H locs ls hH hl
      have h : wp_X1_checksum_s84 K  (fun w a0 x1 x3 => lpN (wp_X1_checksum_l84 K ) n84 (w, a0, x1, x3)) w a0 x1 x3 := h
      have L92 : ∀ (n92 : Nat) (w : Hp) (a0 : Nat) (x1 : Int64) (x3 : Int32) (x4 : Int32), lpN (wp_X1_checksum_l92 K (fun w a0 x1 x3 => lpN (wp_X1_checksum_l84 K ) n84 (w, a0, x1, x3))) n92 (w, a0, x1, x3, x4) → ∀ (H : Heap) (locs : List Loc) (ls : Array Slot), hx_H G w s H locs → lv_has ls 8 [(0, va_rf (some a0)), (1, .long x1), (3, .int x3), (4, .int x4)] → W p l e (headSpec (ws9_X1_checksum) rm_X1_checksum).room s m args below meth c H locs (0) (0) (Q9_X1_checksum below args s G K) (F0 m 92 ls []) := by
        intro n92
        induction n92 with
        | zero => intro w a0 x1 x3 x4 h; exact h.elim
        | succ n92 ih92 =>
          intro w a0 x1 x3 x4 h H locs ls hH hl
          have h : wp_X1_checksum_s92 K (fun w a0 x1 x3 => lpN (wp_X1_checksum_l84 K ) n84 (w, a0, x1, x3)) (fun w a0 x1 x3 x4 => lpN (wp_X1_checksum_l92 K (fun w a0 x1 x3 => lpN (wp_X1_checksum_l84 K ) n84 (w, a0, x1, x3))) n92 (w, a0, x1, x3, x4)) w a0 x1 x3 x4 := h
          have b279 : ∀ (w : Hp) (a0 : Nat) (x1 : Int64) (x3 : Int32) (x4 : Int32), wp_X1_checksum_b279 K (fun w a0 x1 x3 => lpN (wp_X1_checksum_l84 K ) n84 (w, a0, x1, x3)) (fun w a0 x1 x3 x4 => lpN (wp_X1_checksum_l92 K (fun w a0 x1 x3 => lpN (wp_X1_checksum_l84 K ) n84 (w, a0, x1, x3))) n92 (w, a0, x1, x3, x4)) w a0 x1 x3 x4 → ∀ (H : Heap) (locs : List Loc) (ls : Array Slot), hx_H G w s H locs → lv_has ls 8 [(0, va_rf (some a0)), (1, .long x1), (3, .int x3), (4, .int x4)] → W p l e (headSpec (ws9_X1_checksum) rm_X1_checksum).room s m args below meth c H locs (0) (0) (Q9_X1_checksum below args s G K) (F0 m 279 ls []) := by
            intro w a0 x1 x3 x4 h H locs ls hH hl
            obtain ⟨i_1, ei_1⟩ : ∃ z, z = x4 + 1 := ⟨_, rfl⟩
            have h := h i_1 ei_1
            refine lv_iinc (k := 3) hx hb dX1_checksum_279 hl rfl (v := i_1) (by rw [ei_1]; rfl) (by decide) (lv' := [(4, .int i_1), (0, va_rf (some a0)), (1, .long x1), (3, .int x3)]) rfl (fun ls hl => ?_)
            refine lv_goto hx hb dX1_checksum_282 (tgt := 92) (by decide) ?_
            refine W.widen (k := 0) (n := 0) (Nat.le_of_ble_eq_true rfl) (Nat.le_of_ble_eq_true rfl) ?_
            exact ih92 _ _ _ _ _ h _ _ _ hH (lv_sub hl [1, 2, 3, 0] rfl)
          have L188 : ∀ (n188 : Nat) (w : Hp) (a0 : Nat) (x1 : Int64) (x3 : Int32) (x4 : Int32) (a5 : Nat) (x6 : Int32), lpN (wp_X1_checksum_l188 K (fun w a0 x1 x3 => lpN (wp_X1_checksum_l84 K ) n84 (w, a0, x1, x3)) (fun w a0 x1 x3 x4 => lpN (wp_X1_checksum_l92 K (fun w a0 x1 x3 => lpN (wp_X1_checksum_l84 K ) n84 (w, a0, x1, x3))) n92 (w, a0, x1, x3, x4))) n188 (w, a0, x1, x3, x4, a5, x6) → ∀ (H : Heap) (locs : List Loc) (ls : Array Slot), hx_H G w s H locs → lv_has ls 8 [(0, va_rf (some a0)), (1, .long x1), (3, .int x3), (4, .int x4), (5, va_rf (some a5)), (6, .int x6)] → W p l e (headSpec (ws9_X1_checksum) rm_X1_checksum).room s m args below meth c H locs (0) (0) (Q9_X1_checksum below args s G K) (F0 m 188 ls []) := by
            intro n188
            induction n188 with
            | zero => intro w a0 x1 x3 x4 a5 x6 h; exact h.elim
            | succ n188 ih188 =>
              intro w a0 x1 x3 x4 a5 x6 h H locs ls hH hl
              have h : wp_X1_checksum_s188 K (fun w a0 x1 x3 => lpN (wp_X1_checksum_l84 K ) n84 (w, a0, x1, x3)) (fun w a0 x1 x3 x4 => lpN (wp_X1_checksum_l92 K (fun w a0 x1 x3 => lpN (wp_X1_checksum_l84 K ) n84 (w, a0, x1, x3))) n92 (w, a0, x1, x3, x4)) (fun w a0 x1 x3 x4 a5 x6 => lpN (wp_X1_checksum_l188 K (fun w a0 x1 x3 => lpN (wp_X1_checksum_l84 K ) n84 (w, a0, x1, x3)) (fun w a0 x1 x3 x4 => lpN (wp_X1_checksum_l92 K (fun w a0 x1 x3 => lpN (wp_X1_checksum_l84 K ) n84 (w, a0, x1, x3))) n92 (w, a0, x1, x3, x4))) n188 (w, a0, x1, x3, x4, a5, x6)) w a0 x1 x3 x4 a5 x6 := h
              have b273 : ∀ (w : Hp) (a0 : Nat) (x1 : Int64) (x3 : Int32) (x4 : Int32) (a5 : Nat) (x6 : Int32), wp_X1_checksum_b273 K (fun w a0 x1 x3 => lpN (wp_X1_checksum_l84 K ) n84 (w, a0, x1, x3)) (fun w a0 x1 x3 x4 => lpN (wp_X1_checksum_l92 K (fun w a0 x1 x3 => lpN (wp_X1_checksum_l84 K ) n84 (w, a0, x1, x3))) n92 (w, a0, x1, x3, x4)) (fun w a0 x1 x3 x4 a5 x6 => lpN (wp_X1_checksum_l188 K (fun w a0 x1 x3 => lpN (wp_X1_checksum_l84 K ) n84 (w, a0, x1, x3)) (fun w a0 x1 x3 x4 => lpN (wp_X1_checksum_l92 K (fun w a0 x1 x3 => lpN (wp_X1_checksum_l84 K ) n84 (w, a0, x1, x3))) n92 (w, a0, x1, x3, x4))) n188 (w, a0, x1, x3, x4, a5, x6)) w a0 x1 x3 x4 a5 x6 → ∀ (H : Heap) (locs : List Loc) (ls : Array Slot), hx_H G w s H locs → lv_has ls 8 [(0, va_rf (some a0)), (1, .long x1), (3, .int x3), (4, .int x4), (5, va_rf (some a5)), (6, .int x6)] → W p l e (headSpec (ws9_X1_checksum) rm_X1_checksum).room s m args below meth c H locs (0) (0) (Q9_X1_checksum below args s G K) (F0 m 273 ls []) := by
                intro w a0 x1 x3 x4 a5 x6 h H locs ls hH hl
                obtain ⟨i_1, ei_1⟩ : ∃ z, z = x6 + 1 := ⟨_, rfl⟩
                have h := h i_1 ei_1
                refine lv_iinc (k := 5) hx hb dX1_checksum_273 hl rfl (v := i_1) (by rw [ei_1]; rfl) (by decide) (lv' := [(6, .int i_1), (0, va_rf (some a0)), (1, .long x1), (3, .int x3), (4, .int x4), (5, va_rf (some a5))]) rfl (fun ls hl => ?_)
                refine lv_goto hx hb dX1_checksum_276 (tgt := 188) (by decide) ?_
                refine W.widen (k := 0) (n := 0) (Nat.le_of_ble_eq_true rfl) (Nat.le_of_ble_eq_true rfl) ?_
                exact ih188 _ _ _ _ _ _ _ h _ _ _ hH (lv_sub hl [1, 2, 3, 4, 5, 0] rfl)
              refine lv_iload hx hb dX1_checksum_188 (lv_at hl 5 rfl) ?_
              refine lv_iconst (v := 3) hx hb dX1_checksum_190 (by decide) ?_
              refine lv_icmp_ge hx hb dX1_checksum_191 (tgt := 279) (by decide) (fun c_1 => ?_) (fun c_1 => ?_)
              · have h := h.1 c_1
                refine W.widen (k := 0) (n := 0) (Nat.le_of_ble_eq_true rfl) (Nat.le_of_ble_eq_true rfl) ?_
                exact b279 _ _ _ _ _ h _ _ _ hH (lv_sub hl [0, 1, 2, 3] rfl)
              · have h := h.2 c_1
                refine hx_aload C0 dX1_checksum_194 (lv_at hl 4 rfl) ?_
                refine lv_iload hx hb dX1_checksum_196 (lv_at hl 5 rfl) ?_
                obtain ⟨ho, h⟩ := h
                refine hx_VNq C0 hU hH (As := [.int x6]) (wk_X3_session l h) ⟨va_cnB 1 hts (lw_meth q325) rfl rfl rfl (hU.2.2.1 _ q322 rfl) (hts _ q70) (by decide +kernel) ⟨Nat.le_of_ble_eq_true rfl, Nat.le_of_ble_eq_true rfl⟩, hts _ q324, hts _ qs4⟩ (hx_recv hU hH (ci := 2) rfl ho) rfl hl.1 rfl (Nat.le_of_ble_eq_true rfl) dX1_checksum_198 ⟨Nat.le_of_ble_eq_true rfl, Nat.le_of_ble_eq_true rfl⟩ (fun r_2 w H locs hH h => ?_)
                refine hx_astore C0 dX1_checksum_201 hl (by decide) (lv' := [(7, va_rf r_2), (0, va_rf (some a0)), (1, .long x1), (3, .int x3), (4, .int x4), (5, va_rf (some a5)), (6, .int x6)]) rfl (fun ls hl => ?_)
                refine hx_aload C0 dX1_checksum_203 (lv_at hl 0 rfl) ?_
                refine hx_ifnonnull C0 dX1_checksum_205 (tgt := 221) (by decide) (fun c_3 => ?_) (fun c_3 => ?_)
                · have h := h.2 c_3
                  refine lv_ldc2 (v := 31) hx hb C0.2.2.2.1 (hts _ q466) dX1_checksum_221 ?_
                  refine lv_lload_n hx hb dX1_checksum_224 rfl (lv_at hl 2 rfl) ?_
                  refine lv_lmul hx hb dX1_checksum_225 ?_
                  refine hx_aload C0 dX1_checksum_226 (lv_at hl 0 rfl) ?_
                  obtain ⟨b_4, rfl, h9⟩ := h
                  have h := h9
                  clear h9
                  refine hx_gIN C0 hU hH (ci := 6) rfl in_X7 0 (by decide) q803 (fun _ h9 => h9) h dX1_checksum_228 (fun i_5 h => ?_)
                  refine lv_i2l hx hb dX1_checksum_231 rfl ?_
                  refine lv_ladd hx hb dX1_checksum_232 ?_
                  refine lv_topl (fun l_6 el_6 => ?_)
                  have h := h l_6 el_6
                  refine lv_lstore_n hx hb dX1_checksum_233 rfl hl (by decide) (lv' := [(1, .long l_6), (7, va_rf (some b_4)), (0, va_rf (some a0)), (3, .int x3), (4, .int x4), (5, va_rf (some a5)), (6, .int x6)]) rfl (fun ls hl => ?_)
                  refine lv_ldc2 (v := 31) hx hb C0.2.2.2.1 (hts _ q466) dX1_checksum_234 ?_
                  refine lv_lload_n hx hb dX1_checksum_237 rfl (lv_at hl 0 rfl) ?_
                  refine lv_lmul hx hb dX1_checksum_238 ?_
                  refine hx_aload C0 dX1_checksum_239 (lv_at hl 1 rfl) ?_
                  refine hx_gIN C0 hU hH (ci := 6) rfl in_X7 3 (by decide) q809 (fun _ h9 => h9) h dX1_checksum_241 (fun i_7 h => ?_)
                  refine lv_i2l hx hb dX1_checksum_244 rfl ?_
                  refine lv_ladd hx hb dX1_checksum_245 ?_
                  refine lv_topl (fun l_8 el_8 => ?_)
                  have h := h l_8 el_8
                  refine lv_lstore_n hx hb dX1_checksum_246 rfl hl (by decide) (lv' := [(1, .long l_8), (7, va_rf (some b_4)), (0, va_rf (some a0)), (3, .int x3), (4, .int x4), (5, va_rf (some a5)), (6, .int x6)]) rfl (fun ls hl => ?_)
                  refine lv_ldc2 (v := 31) hx hb C0.2.2.2.1 (hts _ q466) dX1_checksum_247 ?_
                  refine lv_lload_n hx hb dX1_checksum_250 rfl (lv_at hl 0 rfl) ?_
                  refine lv_lmul hx hb dX1_checksum_251 ?_
                  refine hx_aload C0 dX1_checksum_252 (lv_at hl 1 rfl) ?_
                  refine hx_gIN C0 hU hH (ci := 6) rfl in_X7 7 (by decide) q816 (fun _ h9 => h9) h dX1_checksum_254 (fun i_9 h => ?_)
                  refine lv_i2l hx hb dX1_checksum_257 rfl ?_
                  refine lv_ladd hx hb dX1_checksum_258 ?_
                  refine lv_topl (fun l_10 el_10 => ?_)
                  have h := h l_10 el_10
                  refine lv_lstore_n hx hb dX1_checksum_259 rfl hl (by decide) (lv' := [(1, .long l_10), (7, va_rf (some b_4)), (0, va_rf (some a0)), (3, .int x3), (4, .int x4), (5, va_rf (some a5)), (6, .int x6)]) rfl (fun ls hl => ?_)
                  refine lv_ldc2 (v := 31) hx hb C0.2.2.2.1 (hts _ q466) dX1_checksum_260 ?_
                  refine lv_lload_n hx hb dX1_checksum_263 rfl (lv_at hl 0 rfl) ?_
                  refine lv_lmul hx hb dX1_checksum_264 ?_
                  refine hx_aload C0 dX1_checksum_265 (lv_at hl 1 rfl) ?_
                  refine hx_gIN C0 hU hH (ci := 6) rfl in_X7 9 (by decide) q820 (fun _ h9 => h9) h dX1_checksum_267 (fun i_11 h => ?_)
                  refine lv_i2l hx hb dX1_checksum_270 rfl ?_
                  refine lv_ladd hx hb dX1_checksum_271 ?_
                  refine lv_topl (fun l_12 el_12 => ?_)
                  have h := h l_12 el_12
                  refine lv_lstore_n hx hb dX1_checksum_272 rfl hl (by decide) (lv' := [(1, .long l_12), (7, va_rf (some b_4)), (0, va_rf (some a0)), (3, .int x3), (4, .int x4), (5, va_rf (some a5)), (6, .int x6)]) rfl (fun ls hl => ?_)
                  refine W.widen (k := 0) (n := 0) (Nat.le_of_ble_eq_true rfl) (Nat.le_of_ble_eq_true rfl) ?_
                  exact b273 _ _ _ _ _ _ _ h _ _ _ hH (lv_sub hl [2, 0, 3, 4, 5, 6] rfl)
                · have h := h.1 c_3
                  refine lv_ldc2 (v := 31) hx hb C0.2.2.2.1 (hts _ q466) dX1_checksum_208 ?_
                  refine lv_lload_n hx hb dX1_checksum_211 rfl (lv_at hl 2 rfl) ?_
                  refine lv_lmul hx hb dX1_checksum_212 ?_
                  refine lv_ldc2 (v := -1) hx hb C0.2.2.2.1 (hts _ q467) dX1_checksum_213 ?_
                  refine lv_ladd hx hb dX1_checksum_216 ?_
                  refine lv_topl (fun l_13 el_13 => ?_)
                  have h := h l_13 el_13
                  refine lv_lstore_n hx hb dX1_checksum_217 rfl hl (by decide) (lv' := [(1, .long l_13), (7, va_rf r_2), (0, va_rf (some a0)), (3, .int x3), (4, .int x4), (5, va_rf (some a5)), (6, .int x6)]) rfl (fun ls hl => ?_)
                  refine lv_goto hx hb dX1_checksum_218 (tgt := 273) (by decide) ?_
                  refine W.widen (k := 0) (n := 0) (Nat.le_of_ble_eq_true rfl) (Nat.le_of_ble_eq_true rfl) ?_
                  exact b273 _ _ _ _ _ _ _ h _ _ _ hH (lv_sub hl [2, 0, 3, 4, 5, 6] rfl)
          have b156 : ∀ (w : Hp) (a0 : Nat) (x3 : Int32) (x4 : Int32) (a5 : Nat) (t0 : Int32) (t1 : Int64), wp_X1_checksum_b156 K (fun w a0 x1 x3 => lpN (wp_X1_checksum_l84 K ) n84 (w, a0, x1, x3)) (fun w a0 x1 x3 x4 => lpN (wp_X1_checksum_l92 K (fun w a0 x1 x3 => lpN (wp_X1_checksum_l84 K ) n84 (w, a0, x1, x3))) n92 (w, a0, x1, x3, x4)) w a0 x3 x4 a5 t0 t1 → ∀ (H : Heap) (locs : List Loc) (ls : Array Slot), hx_H G w s H locs → lv_has ls 8 [(0, va_rf (some a0)), (3, .int x3), (4, .int x4), (5, va_rf (some a5))] → W p l e (headSpec (ws9_X1_checksum) rm_X1_checksum).room s m args below meth c H locs (0) (0) (Q9_X1_checksum below args s G K) (F0 m 156 ls [.int t0, .long t1]) := by
            intro w a0 x3 x4 a5 t0 t1 h H locs ls hH hl
            refine lv_i2l hx hb dX1_checksum_156 rfl ?_
            refine lv_ladd hx hb dX1_checksum_157 ?_
            refine lv_topl (fun l_1 el_1 => ?_)
            have h := h l_1 el_1
            refine lv_lstore_n hx hb dX1_checksum_158 rfl hl (by decide) (lv' := [(1, .long l_1), (0, va_rf (some a0)), (3, .int x3), (4, .int x4), (5, va_rf (some a5))]) rfl (fun ls hl => ?_)
            refine lv_ldc2 (v := 31) hx hb C0.2.2.2.1 (hts _ q466) dX1_checksum_159 ?_
            refine lv_lload_n hx hb dX1_checksum_162 rfl (lv_at hl 0 rfl) ?_
            refine lv_lmul hx hb dX1_checksum_163 ?_
            refine hx_aload C0 dX1_checksum_164 (lv_at hl 4 rfl) ?_
            refine hx_gIN C0 hU hH (ci := 2) rfl in_X3 5 (by decide) q232 (fun _ h9 => h9) h dX1_checksum_166 (fun i_2 h => ?_)
            refine lv_i2l hx hb dX1_checksum_169 rfl ?_
            refine lv_ladd hx hb dX1_checksum_170 ?_
            refine lv_topl (fun l_3 el_3 => ?_)
            have h := h l_3 el_3
            refine lv_lstore_n hx hb dX1_checksum_171 rfl hl (by decide) (lv' := [(1, .long l_3), (0, va_rf (some a0)), (3, .int x3), (4, .int x4), (5, va_rf (some a5))]) rfl (fun ls hl => ?_)
            refine lv_ldc2 (v := 31) hx hb C0.2.2.2.1 (hts _ q466) dX1_checksum_172 ?_
            refine lv_lload_n hx hb dX1_checksum_175 rfl (lv_at hl 0 rfl) ?_
            refine lv_lmul hx hb dX1_checksum_176 ?_
            refine hx_aload C0 dX1_checksum_177 (lv_at hl 4 rfl) ?_
            refine hx_gIN C0 hU hH (ci := 2) rfl in_X3 10 (by decide) q239 (fun _ h9 => h9) h dX1_checksum_179 (fun i_4 h => ?_)
            refine lv_i2l hx hb dX1_checksum_182 rfl ?_
            refine lv_ladd hx hb dX1_checksum_183 ?_
            refine lv_topl (fun l_5 el_5 => ?_)
            have h := h l_5 el_5
            refine lv_lstore_n hx hb dX1_checksum_184 rfl hl (by decide) (lv' := [(1, .long l_5), (0, va_rf (some a0)), (3, .int x3), (4, .int x4), (5, va_rf (some a5))]) rfl (fun ls hl => ?_)
            refine lv_iconst (v := 0) hx hb dX1_checksum_185 (by decide) ?_
            refine lv_istore hx hb dX1_checksum_186 hl (by decide) (lv' := [(6, .int (0 : Int32)), (1, .long l_5), (0, va_rf (some a0)), (3, .int x3), (4, .int x4), (5, va_rf (some a5))]) rfl (fun ls hl => ?_)
            obtain ⟨n9, h⟩ := h
            refine W.widen (k := 0) (n := 0) (Nat.le_of_ble_eq_true rfl) (Nat.le_of_ble_eq_true rfl) ?_
            exact L188 n9 _ _ _ _ _ _ _ h _ _ _ hH (lv_sub hl [2, 1, 3, 4, 5, 0] rfl)
          refine lv_iload hx hb dX1_checksum_92 (lv_at hl 3 rfl) ?_
          refine lv_iconst (v := 3) hx hb dX1_checksum_94 (by decide) ?_
          refine lv_icmp_ge hx hb dX1_checksum_95 (tgt := 285) (by decide) (fun c_1 => ?_) (fun c_1 => ?_)
          · have h := h.1 c_1
            obtain ⟨i_2, ei_2⟩ : ∃ z, z = x3 + 1 := ⟨_, rfl⟩
            have h := h i_2 ei_2
            refine lv_iinc (k := 2) hx hb dX1_checksum_285 hl rfl (v := i_2) (by rw [ei_2]; rfl) (by decide) (lv' := [(3, .int i_2), (0, va_rf (some a0)), (1, .long x1), (4, .int x4)]) rfl (fun ls hl => ?_)
            refine lv_goto hx hb dX1_checksum_288 (tgt := 84) (by decide) ?_
            refine W.widen (k := 0) (n := 0) (Nat.le_of_ble_eq_true rfl) (Nat.le_of_ble_eq_true rfl) ?_
            exact ih84 _ _ _ _ h _ _ _ hH (lv_sub hl [1, 2, 0] rfl)
          · have h := h.2 c_1
            refine lv_iload hx hb dX1_checksum_98 (lv_at hl 3 rfl) ?_
            refine lv_iload_n hx hb dX1_checksum_100 rfl (lv_at hl 2 rfl) ?_
            refine lv_icmp_ne hx hb dX1_checksum_101 (tgt := 107) (by decide) (fun c_3 => ?_) (fun c_3 => ?_)
            · have h := h.2 c_3
              refine hx_aload_n C0 dX1_checksum_107 rfl (lv_at hl 0 rfl) ?_
              refine hx_gR C0 hU hH (ci := 0) rfl in_X1 6 (by decide) q269 (fun _ h9 => h9) h dX1_checksum_108 (fun r_4 h => ?_)
              refine lv_iload_n hx hb dX1_checksum_111 rfl (lv_at hl 2 rfl) ?_
              obtain ⟨b_5, rfl, h9⟩ := h
              have h := h9
              clear h9
              refine hx_aR C0 hU hH h dX1_checksum_112 (fun r_6 h => ?_)
              refine lv_iload hx hb dX1_checksum_113 (lv_at hl 3 rfl) ?_
              obtain ⟨b_7, rfl, h9⟩ := h
              have h := h9
              clear h9
              refine hx_aR C0 hU hH h dX1_checksum_115 (fun r_8 h => ?_)
              refine hx_astore C0 dX1_checksum_116 hl (by decide) (lv' := [(5, va_rf r_8), (0, va_rf (some a0)), (1, .long x1), (3, .int x3), (4, .int x4)]) rfl (fun ls hl => ?_)
              refine lv_ldc2 (v := 31) hx hb C0.2.2.2.1 (hts _ q466) dX1_checksum_118 ?_
              refine lv_lload_n hx hb dX1_checksum_121 rfl (lv_at hl 2 rfl) ?_
              refine lv_lmul hx hb dX1_checksum_122 ?_
              refine hx_aload C0 dX1_checksum_123 (lv_at hl 0 rfl) ?_
              obtain ⟨b_9, rfl, h9⟩ := h
              have h := h9
              clear h9
              refine hx_gIN C0 hU hH (ci := 2) rfl in_X3 0 (by decide) q224 (fun _ h9 => h9) h dX1_checksum_125 (fun i_10 h => ?_)
              refine lv_i2l hx hb dX1_checksum_128 rfl ?_
              refine lv_ladd hx hb dX1_checksum_129 ?_
              refine lv_topl (fun l_11 el_11 => ?_)
              have h := h l_11 el_11
              refine lv_lstore_n hx hb dX1_checksum_130 rfl hl (by decide) (lv' := [(1, .long l_11), (5, va_rf (some b_9)), (0, va_rf (some a0)), (3, .int x3), (4, .int x4)]) rfl (fun ls hl => ?_)
              refine lv_ldc2 (v := 31) hx hb C0.2.2.2.1 (hts _ q466) dX1_checksum_131 ?_
              refine lv_lload_n hx hb dX1_checksum_134 rfl (lv_at hl 0 rfl) ?_
              refine lv_lmul hx hb dX1_checksum_135 ?_
              refine hx_aload C0 dX1_checksum_136 (lv_at hl 1 rfl) ?_
              refine hx_gRN C0 hU hH (ci := 2) rfl in_X3 4 (by decide) q231 (fun _ h9 => h9) h dX1_checksum_138 (fun r_12 h => ?_)
              refine hx_ifnonnull C0 dX1_checksum_141 (tgt := 148) (by decide) (fun c_13 => ?_) (fun c_13 => ?_)
              · have h := h.2 c_13
                refine hx_aload C0 dX1_checksum_148 (lv_at hl 1 rfl) ?_
                refine hx_gRN C0 hU hH (ci := 2) rfl in_X3 4 (by decide) q231 (fun _ h9 => h9) h dX1_checksum_150 (fun r_14 h => ?_)
                obtain ⟨b_15, rfl, h9⟩ := h
                have h := h9
                clear h9
                refine hx_gIN C0 hU hH (ci := 5) rfl in_X6 0 (by decide) q718 (fun _ h9 => h9) h dX1_checksum_153 (fun i_16 h => ?_)
                refine W.widen (k := 0) (n := 0) (Nat.le_of_ble_eq_true rfl) (Nat.le_of_ble_eq_true rfl) ?_
                exact b156 _ _ _ _ _ _ _ h _ _ _ hH (lv_sub hl [2, 3, 4, 1] rfl)
              · have h := h.1 c_13
                refine lv_iconst (v := -1) hx hb dX1_checksum_144 (by decide) ?_
                refine lv_goto hx hb dX1_checksum_145 (tgt := 156) (by decide) ?_
                refine W.widen (k := 0) (n := 0) (Nat.le_of_ble_eq_true rfl) (Nat.le_of_ble_eq_true rfl) ?_
                exact b156 _ _ _ _ _ _ _ h _ _ _ hH (lv_sub hl [2, 3, 4, 1] rfl)
            · have h := h.1 c_3
              refine lv_goto hx hb dX1_checksum_104 (tgt := 279) (by decide) ?_
              refine W.widen (k := 0) (n := 0) (Nat.le_of_ble_eq_true rfl) (Nat.le_of_ble_eq_true rfl) ?_
              exact b279 _ _ _ _ _ h _ _ _ hH (lv_sub hl [0, 1, 2, 3] rfl)
      refine lv_iload_n hx hb dX1_checksum_84 rfl (lv_at hl 2 rfl) ?_
      refine lv_iconst (v := 3) hx hb dX1_checksum_85 (by decide) ?_
      refine lv_icmp_ge hx hb dX1_checksum_86 (tgt := 291) (by decide) (fun c_1 => ?_) (fun c_1 => ?_)
      · have h := h.1 c_1
        refine lv_iconst (v := 0) hx hb dX1_checksum_291 (by decide) ?_
        refine lv_istore_n hx hb dX1_checksum_292 rfl hl (by decide) (lv' := [(3, .int (0 : Int32)), (0, va_rf (some a0)), (1, .long x1)]) rfl (fun ls hl => ?_)
        refine W.widen (k := 0) (n := 0) (Nat.le_of_ble_eq_true rfl) (Nat.le_of_ble_eq_true rfl) ?_
        exact L293 4 (0) (0) (Nat.le_of_ble_eq_true rfl) (Nat.le_of_ble_eq_true rfl) _ _ _ _ h _ _ _ hH (lv_sub hl [1, 2, 0] rfl)
      · have h := h.2 c_1
        refine lv_iconst (v := 0) hx hb dX1_checksum_89 (by decide) ?_
        refine lv_istore hx hb dX1_checksum_90 hl (by decide) (lv' := [(4, .int (0 : Int32)), (0, va_rf (some a0)), (1, .long x1), (3, .int x3)]) rfl (fun ls hl => ?_)
        obtain ⟨n9, h⟩ := h
        refine W.widen (k := 0) (n := 0) (Nat.le_of_ble_eq_true rfl) (Nat.le_of_ble_eq_true rfl) ?_
        exact L92 n9 _ _ _ _ _ h _ _ _ hH (lv_sub hl [1, 2, 3, 0] rfl)
  have L18 : ∀ (n18 : Nat) (w : Hp) (a0 : Nat) (x1 : Int64) (x3 : Int32), lpN (wp_X1_checksum_l18 K ) n18 (w, a0, x1, x3) → ∀ (H : Heap) (locs : List Loc) (ls : Array Slot), hx_H G w s H locs → lv_has ls 8 [(0, va_rf (some a0)), (1, .long x1), (3, .int x3)] → W p l e (headSpec (ws9_X1_checksum) rm_X1_checksum).room s m args below meth c H locs (0) (0) (Q9_X1_checksum below args s G K) (F0 m 18 ls []) := by
    intro n18
    induction n18 with
    | zero => intro w a0 x1 x3 h; exact h.elim
    | succ n18 ih18 =>
      intro w a0 x1 x3 h H locs ls hH hl
      have h : wp_X1_checksum_s18 K  (fun w a0 x1 x3 => lpN (wp_X1_checksum_l18 K ) n18 (w, a0, x1, x3)) w a0 x1 x3 := h
      have b56 : ∀ (w : Hp) (a0 : Nat) (x3 : Int32) (t0 : Int32) (t1 : Int64), wp_X1_checksum_b56 K (fun w a0 x1 x3 => lpN (wp_X1_checksum_l18 K ) n18 (w, a0, x1, x3)) w a0 x3 t0 t1 → ∀ (H : Heap) (locs : List Loc) (ls : Array Slot), hx_H G w s H locs → lv_has ls 8 [(0, va_rf (some a0)), (3, .int x3)] → W p l e (headSpec (ws9_X1_checksum) rm_X1_checksum).room s m args below meth c H locs (0) (0) (Q9_X1_checksum below args s G K) (F0 m 56 ls [.int t0, .long t1]) := by
        intro w a0 x3 t0 t1 h H locs ls hH hl
        refine lv_i2l hx hb dX1_checksum_56 rfl ?_
        refine lv_ladd hx hb dX1_checksum_57 ?_
        refine lv_topl (fun l_1 el_1 => ?_)
        have h := h l_1 el_1
        refine lv_lstore_n hx hb dX1_checksum_58 rfl hl (by decide) (lv' := [(1, .long l_1), (0, va_rf (some a0)), (3, .int x3)]) rfl (fun ls hl => ?_)
        refine lv_ldc2 (v := 31) hx hb C0.2.2.2.1 (hts _ q466) dX1_checksum_59 ?_
        refine lv_lload_n hx hb dX1_checksum_62 rfl (lv_at hl 0 rfl) ?_
        refine lv_lmul hx hb dX1_checksum_63 ?_
        refine hx_aload_n C0 dX1_checksum_64 rfl (lv_at hl 1 rfl) ?_
        refine hx_gR C0 hU hH (ci := 0) rfl in_X1 5 (by decide) q268 (fun _ h9 => h9) h dX1_checksum_65 (fun r_2 h => ?_)
        refine lv_iload_n hx hb dX1_checksum_68 rfl (lv_at hl 2 rfl) ?_
        obtain ⟨b_3, rfl, h9⟩ := h
        have h := h9
        clear h9
        refine hx_aR C0 hU hH h dX1_checksum_69 (fun r_4 h => ?_)
        obtain ⟨b_5, rfl, h9⟩ := h
        have h := h9
        clear h9
        refine hx_gIN C0 hU hH (ci := 1) rfl in_X2 3 (by decide) q144 (fun _ h9 => h9) h dX1_checksum_70 (fun i_6 h => ?_)
        refine lv_i2l hx hb dX1_checksum_73 rfl ?_
        refine lv_ladd hx hb dX1_checksum_74 ?_
        refine lv_topl (fun l_7 el_7 => ?_)
        have h := h l_7 el_7
        refine lv_lstore_n hx hb dX1_checksum_75 rfl hl (by decide) (lv' := [(1, .long l_7), (0, va_rf (some a0)), (3, .int x3)]) rfl (fun ls hl => ?_)
        obtain ⟨i_8, ei_8⟩ : ∃ z, z = x3 + 1 := ⟨_, rfl⟩
        have h := h i_8 ei_8
        refine lv_iinc (k := 2) hx hb dX1_checksum_76 hl rfl (v := i_8) (by rw [ei_8]; rfl) (by decide) (lv' := [(3, .int i_8), (1, .long l_7), (0, va_rf (some a0))]) rfl (fun ls hl => ?_)
        refine lv_goto hx hb dX1_checksum_79 (tgt := 18) (by decide) ?_
        refine W.widen (k := 0) (n := 0) (Nat.le_of_ble_eq_true rfl) (Nat.le_of_ble_eq_true rfl) ?_
        exact ih18 _ _ _ _ h _ _ _ hH (lv_sub hl [2, 1, 0] rfl)
      refine lv_iload_n hx hb dX1_checksum_18 rfl (lv_at hl 2 rfl) ?_
      refine lv_iconst (v := 3) hx hb dX1_checksum_19 (by decide) ?_
      refine lv_icmp_ge hx hb dX1_checksum_20 (tgt := 82) (by decide) (fun c_1 => ?_) (fun c_1 => ?_)
      · have h := h.1 c_1
        refine lv_iconst (v := 0) hx hb dX1_checksum_82 (by decide) ?_
        refine lv_istore_n hx hb dX1_checksum_83 rfl hl (by decide) (lv' := [(3, .int (0 : Int32)), (0, va_rf (some a0)), (1, .long x1)]) rfl (fun ls hl => ?_)
        obtain ⟨n9, h⟩ := h
        refine W.widen (k := 0) (n := 0) (Nat.le_of_ble_eq_true rfl) (Nat.le_of_ble_eq_true rfl) ?_
        exact L84 n9 _ _ _ _ h _ _ _ hH (lv_sub hl [1, 2, 0] rfl)
      · have h := h.2 c_1
        refine lv_ldc2 (v := 31) hx hb C0.2.2.2.1 (hts _ q466) dX1_checksum_23 ?_
        refine lv_lload_n hx hb dX1_checksum_26 rfl (lv_at hl 1 rfl) ?_
        refine lv_lmul hx hb dX1_checksum_27 ?_
        refine hx_aload_n C0 dX1_checksum_28 rfl (lv_at hl 0 rfl) ?_
        refine hx_gR C0 hU hH (ci := 0) rfl in_X1 3 (by decide) q266 (fun _ h9 => h9) h dX1_checksum_29 (fun r_2 h => ?_)
        refine lv_iload_n hx hb dX1_checksum_32 rfl (lv_at hl 2 rfl) ?_
        obtain ⟨b_3, rfl, h9⟩ := h
        have h := h9
        clear h9
        refine hx_aI C0 hU hH h dX1_checksum_33 (fun i_4 h => ?_)
        refine lv_i2l hx hb dX1_checksum_34 rfl ?_
        refine lv_ladd hx hb dX1_checksum_35 ?_
        refine lv_topl (fun l_5 el_5 => ?_)
        have h := h l_5 el_5
        refine lv_lstore_n hx hb dX1_checksum_36 rfl hl (by decide) (lv' := [(1, .long l_5), (0, va_rf (some a0)), (3, .int x3)]) rfl (fun ls hl => ?_)
        refine lv_ldc2 (v := 31) hx hb C0.2.2.2.1 (hts _ q466) dX1_checksum_37 ?_
        refine lv_lload_n hx hb dX1_checksum_40 rfl (lv_at hl 0 rfl) ?_
        refine lv_lmul hx hb dX1_checksum_41 ?_
        refine hx_aload_n C0 dX1_checksum_42 rfl (lv_at hl 1 rfl) ?_
        refine hx_gR C0 hU hH (ci := 0) rfl in_X1 4 (by decide) q267 (fun _ h9 => h9) h dX1_checksum_43 (fun r_6 h => ?_)
        refine lv_iload_n hx hb dX1_checksum_46 rfl (lv_at hl 2 rfl) ?_
        obtain ⟨b_7, rfl, h9⟩ := h
        have h := h9
        clear h9
        refine hx_aZ C0 hU hH h dX1_checksum_47 (fun i_8 h => ?_)
        refine lv_if_eq hx hb dX1_checksum_48 (tgt := 55) (by decide) (fun c_9 => ?_) (fun c_9 => ?_)
        · have h := h.1 c_9
          refine lv_iconst (v := 0) hx hb dX1_checksum_55 (by decide) ?_
          refine W.widen (k := 0) (n := 0) (Nat.le_of_ble_eq_true rfl) (Nat.le_of_ble_eq_true rfl) ?_
          exact b56 _ _ _ _ _ h _ _ _ hH (lv_sub hl [1, 2] rfl)
        · have h := h.2 c_9
          refine lv_iconst (v := 1) hx hb dX1_checksum_51 (by decide) ?_
          refine lv_goto hx hb dX1_checksum_52 (tgt := 56) (by decide) ?_
          refine W.widen (k := 0) (n := 0) (Nat.le_of_ble_eq_true rfl) (Nat.le_of_ble_eq_true rfl) ?_
          exact b56 _ _ _ _ _ h _ _ _ hH (lv_sub hl [1, 2] rfl)
  refine lv_ldc2 (v := 31) hx hb C0.2.2.2.1 (hts _ q466) dX1_checksum_0 ?_
  refine lv_lstore_n hx hb dX1_checksum_3 rfl hl (by decide) (lv' := [(1, .long (31 : Int64)), (0, va_rf (some a0))]) rfl (fun ls hl => ?_)
  refine lv_ldc2 (v := 31) hx hb C0.2.2.2.1 (hts _ q466) dX1_checksum_4 ?_
  refine lv_lload_n hx hb dX1_checksum_7 rfl (lv_at hl 0 rfl) ?_
  refine lv_lmul hx hb dX1_checksum_8 ?_
  refine hx_aload_n C0 dX1_checksum_9 rfl (lv_at hl 1 rfl) ?_
  refine hx_gI C0 hU hH (ci := 0) rfl in_X1 0 (by decide) q263 (fun _ h9 => h9) h dX1_checksum_10 (fun i_1 h => ?_)
  refine lv_i2l hx hb dX1_checksum_13 rfl ?_
  refine lv_ladd hx hb dX1_checksum_14 ?_
  refine lv_topl (fun l_2 el_2 => ?_)
  have h := h l_2 el_2
  refine lv_lstore_n hx hb dX1_checksum_15 rfl hl (by decide) (lv' := [(1, .long l_2), (0, va_rf (some a0))]) rfl (fun ls hl => ?_)
  refine lv_iconst (v := 0) hx hb dX1_checksum_16 (by decide) ?_
  refine lv_istore_n hx hb dX1_checksum_17 rfl hl (by decide) (lv' := [(3, .int (0 : Int32)), (1, .long l_2), (0, va_rf (some a0))]) rfl (fun ls hl => ?_)
  obtain ⟨n9, h⟩ := h
  refine W.widen (k := 0) (n := 0) (Nat.le_of_ble_eq_true rfl) (Nat.le_of_ble_eq_true rfl) ?_
  exact L18 n9 _ _ _ _ h _ _ _ hH (lv_sub hl [2, 1, 0] rfl)
def wp_X1_pass_b11 (K : Hp → Int32 → Prop) (X : Hp → String → Prop)  (w : Hp)  : Prop :=
  X w eIA
def wp_X1_pass (w : Hp) (a0 : Nat) (x1 : Int32) (X : Hp → String → Prop) (K : Hp → Int32 → Prop) : Prop :=
  br (x1 < (1 : Int32)) (wp_X1_pass_b11 K X w) (br (x1 ≤ (60 : Int32)) (gI w a0 0 0 fun i_3 => br ((i_3 + x1) ≤ (500000000 : Int32)) (gI w a0 0 0 fun i_5 => pV w a0 0 0 (.int (i_5 + x1)) fun w => gI w a0 0 0 fun i_6 => K w i_6) (X w eIS)) (wp_X1_pass_b11 K X w))
abbrev rm_X1_pass : Room := { frames := 6, cells := 1, slots := 6, locals := 82 }
abbrev ws9_X1_pass : List Cond := ws_ yX1_pass cX1_pass 2 (Option.some Jvm.ClassFile.FieldType.int)
abbrev Q9_X1_pass (below : List Frame) (args : Array Value) (s : State) (G : hG) (K : Hp → Int32 → Prop) (X : Hp → String → Prop) : State → Prop := vx_MQ below (hx_Qi G K) (hx_XC G X) args s 1 6 (hx_A G)
set_option maxHeartbeats 4000000 in
set_option maxRecDepth 100000 in
theorem wk_X1_pass (l : Launch) (hst : l.stackTraces = false) {G : hG} {w : Hp} {a0 : Nat} {x1 : Int32} {K : Hp → Int32 → Prop} {X : Hp → String → Prop} (h : wp_X1_pass w a0 x1 X K) : hx_xMi l yX1_pass (ws9_X1_pass) rm_X1_pass G w [.ref a0, .int x1] K X 1 6 := by
  refine vx_ofW (cc := cX1_pass) (maxL := 2) (ret := (Option.some Jvm.ClassFile.FieldType.int)) (by decide +kernel) rfl ?_
  intro p e s m args below meth c s₁ B hml hex hv
  refine hx_in (own := RX1) (av := [.ref a0, .int x1]) (vl := [(0, va_rf (some a0)), (1, .int x1)]) rfl rfl (Nat.le_of_ble_eq_true rfl) rfl B hml hv ?_
  intro C0 hU hH hr hlocks hin ls hl
  have hx := C0.1
  have hb := C0.2.1
  have hts := C0.2.2.2.2
  have b11 : ∀ (w : Hp) , wp_X1_pass_b11 K X  w  → ∀ (H : Heap) (locs : List Loc) (ls : Array Slot), hx_H G w s H locs → lv_has ls 2 [] → W p l e (headSpec (ws9_X1_pass) rm_X1_pass).room s m args below meth c H locs (0) (0) (Q9_X1_pass below args s G K X) (F0 m 11 ls []) := by
    intro w  h H locs ls hH hl
    exact hx_throw C0 hU hH hst (text := "ticks") (cls := eIA) (names := hx_names) hl.1 rfl hx_names_fit q496 q75 q505 hat_eIA good_eIA_51 dX1_pass_11 dX1_pass_14 dX1_pass_15 dX1_pass_17 dX1_pass_20 hex hlocks h (Nat.le_of_ble_eq_true rfl) (Nat.le_of_ble_eq_true rfl) (Nat.le_of_ble_eq_true rfl) (Nat.le_of_ble_eq_true rfl) (Nat.le_of_ble_eq_true rfl) (Nat.le_of_ble_eq_true rfl)
  refine lv_iload_n hx hb dX1_pass_0 rfl (lv_at hl 1 rfl) ?_
  refine lv_iconst (v := 1) hx hb dX1_pass_1 (by decide) ?_
  refine lv_icmp_lt hx hb dX1_pass_2 (tgt := 11) (by decide) (fun c_1 => ?_) (fun c_1 => ?_)
  · have h := h.1 c_1
    refine W.widen (k := 0) (n := 0) (Nat.le_of_ble_eq_true rfl) (Nat.le_of_ble_eq_true rfl) ?_
    exact b11 _  h _ _ _ hH (lv_sub hl [] rfl)
  · have h := h.2 c_1
    refine lv_iload_n hx hb dX1_pass_5 rfl (lv_at hl 1 rfl) ?_
    refine lv_bipush (v := 60) hx hb dX1_pass_6 (by decide) ?_
    refine lv_icmp_le hx hb dX1_pass_8 (tgt := 21) (by decide) (fun c_2 => ?_) (fun c_2 => ?_)
    · have h := h.1 c_2
      refine hx_aload_n C0 dX1_pass_21 rfl (lv_at hl 0 rfl) ?_
      refine hx_gI C0 hU hH (ci := 0) rfl in_X1 0 (by decide) q263 (fun _ h9 => h9) h dX1_pass_22 (fun i_3 h => ?_)
      refine lv_iload_n hx hb dX1_pass_25 rfl (lv_at hl 1 rfl) ?_
      refine lv_iadd hx hb dX1_pass_26 ?_
      refine lv_ldc (v := 500000000) hx hb C0.2.2.2.1 (hts _ q521) dX1_pass_27 ?_
      refine lv_icmp_le hx hb dX1_pass_29 (tgt := 42) (by decide) (fun c_4 => ?_) (fun c_4 => ?_)
      · have h := h.1 c_4
        refine hx_aload_n C0 dX1_pass_42 rfl (lv_at hl 0 rfl) ?_
        refine lv_dup hx hb dX1_pass_43 rfl ?_
        refine hx_gI C0 hU hH (ci := 0) rfl in_X1 0 (by decide) q263 (fun _ h9 => h9) h dX1_pass_44 (fun i_5 h => ?_)
        refine lv_iload_n hx hb dX1_pass_47 rfl (lv_at hl 1 rfl) ?_
        refine lv_iadd hx hb dX1_pass_48 ?_
        refine hx_pV C0 hU hH (ci := 0) rfl in_X1 tyX1 tyX1_ok nmX1 0 (by decide) q263 (fun _ h9 => h9) (Or.inl rfl) rfl rfl h dX1_pass_49 (fun w H locs hH h => ?_)
        refine hx_aload_n C0 dX1_pass_52 rfl (lv_at hl 0 rfl) ?_
        refine hx_gI C0 hU hH (ci := 0) rfl in_X1 0 (by decide) q263 (fun _ h9 => h9) h dX1_pass_53 (fun i_6 h => ?_)
        exact hx_xreti C0 hH hr hlocks h (Nat.le_of_ble_eq_true rfl) (Nat.le_of_ble_eq_true rfl) dX1_pass_56
      · have h := h.2 c_4
        exact hx_throw C0 hU hH hst (text := "time") (cls := eIS) (names := hx_names) hl.1 rfl hx_names_fit q522 q76 q531 hat_eIS good_eIS_63 dX1_pass_32 dX1_pass_35 dX1_pass_36 dX1_pass_38 dX1_pass_41 hex hlocks h (Nat.le_of_ble_eq_true rfl) (Nat.le_of_ble_eq_true rfl) (Nat.le_of_ble_eq_true rfl) (Nat.le_of_ble_eq_true rfl) (Nat.le_of_ble_eq_true rfl) (Nat.le_of_ble_eq_true rfl)
    · have h := h.2 c_2
      refine W.widen (k := 0) (n := 0) (Nat.le_of_ble_eq_true rfl) (Nat.le_of_ble_eq_true rfl) ?_
      exact b11 _  h _ _ _ hH (lv_sub hl [] rfl)
def wp_X1_checkEnd_b9 (K : Hp → Prop) (X : Hp → String → Prop)  (w : Hp)  : Prop :=
  X w eIO
def wp_X1_checkEnd (w : Hp) (x0 : Int32) (X : Hp → String → Prop) (K : Hp → Prop) : Prop :=
  br (x0 < 0) (wp_X1_checkEnd_b9 K X w) (br (x0 < (3 : Int32)) (K w) (wp_X1_checkEnd_b9 K X w))
abbrev rm_X1_checkEnd : Room := { frames := 6, cells := 1, slots := 6, locals := 82 }
abbrev ws9_X1_checkEnd : List Cond := ws_ yX1_checkEnd cX1_checkEnd 1 none
abbrev Q9_X1_checkEnd (below : List Frame) (args : Array Value) (s : State) (G : hG) (K : Hp → Prop) (X : Hp → String → Prop) : State → Prop := vx_MQ below (hx_Qv G K) (hx_XC G X) args s 1 6 (hx_A G)
set_option maxHeartbeats 4000000 in
set_option maxRecDepth 100000 in
theorem wk_X1_checkEnd (l : Launch) (hst : l.stackTraces = false) {G : hG} {w : Hp} {x0 : Int32} {K : Hp → Prop} {X : Hp → String → Prop} (h : wp_X1_checkEnd w x0 X K) : hx_xMv l yX1_checkEnd (ws9_X1_checkEnd) rm_X1_checkEnd G w [.int x0] K X 1 6 := by
  refine vx_ofW (cc := cX1_checkEnd) (maxL := 1) (ret := none) (by decide +kernel) rfl ?_
  intro p e s m args below meth c s₁ B hml hex hv
  refine hx_in (own := RX1) (av := [.int x0]) (vl := [(0, .int x0)]) rfl rfl (Nat.le_of_ble_eq_true rfl) rfl B hml hv ?_
  intro C0 hU hH hr hlocks hin ls hl
  have hx := C0.1
  have hb := C0.2.1
  have hts := C0.2.2.2.2
  have b9 : ∀ (w : Hp) , wp_X1_checkEnd_b9 K X  w  → ∀ (H : Heap) (locs : List Loc) (ls : Array Slot), hx_H G w s H locs → lv_has ls 1 [] → W p l e (headSpec (ws9_X1_checkEnd) rm_X1_checkEnd).room s m args below meth c H locs (0) (0) (Q9_X1_checkEnd below args s G K X) (F0 m 9 ls []) := by
    intro w  h H locs ls hH hl
    exact hx_throwW C0 hU hH hst (text := "end") (cls := eIO) (names := hx_names) hl.1 rfl hx_names_fit q572 q77 q581 hat_eIO good_eIO_259 dX1_checkEnd_9 dX1_checkEnd_12 dX1_checkEnd_13 dX1_checkEnd_16 dX1_checkEnd_19 hex hlocks h (Nat.le_of_ble_eq_true rfl) (Nat.le_of_ble_eq_true rfl) (Nat.le_of_ble_eq_true rfl) (Nat.le_of_ble_eq_true rfl) (Nat.le_of_ble_eq_true rfl) (Nat.le_of_ble_eq_true rfl)
  refine lv_iload_n hx hb dX1_checkEnd_0 rfl (lv_at hl 0 rfl) ?_
  refine lv_if_lt hx hb dX1_checkEnd_1 (tgt := 9) (by decide) (fun c_1 => ?_) (fun c_1 => ?_)
  · have h := h.1 c_1
    refine W.widen (k := 0) (n := 0) (Nat.le_of_ble_eq_true rfl) (Nat.le_of_ble_eq_true rfl) ?_
    exact b9 _  h _ _ _ hH (lv_sub hl [] rfl)
  · have h := h.2 c_1
    refine lv_iload_n hx hb dX1_checkEnd_4 rfl (lv_at hl 0 rfl) ?_
    refine lv_iconst (v := 3) hx hb dX1_checkEnd_5 (by decide) ?_
    refine lv_icmp_lt hx hb dX1_checkEnd_6 (tgt := 20) (by decide) (fun c_2 => ?_) (fun c_2 => ?_)
    · have h := h.1 c_2
      exact hx_xretv C0 hH hr hlocks h (Nat.le_of_ble_eq_true rfl) (Nat.le_of_ble_eq_true rfl) dX1_checkEnd_20
    · have h := h.2 c_2
      refine W.widen (k := 0) (n := 0) (Nat.le_of_ble_eq_true rfl) (Nat.le_of_ble_eq_true rfl) ?_
      exact b9 _  h _ _ _ hH (lv_sub hl [] rfl)
def wp_X1_move_b57 (K : Hp → Int32 → Prop) (X : Hp → String → Prop) (bk27 : Hp → Nat → Int32 → Int32 → Int32 → Prop) (w : Hp) (a0 : Nat) (x1 : Int32) (x2 : Int32) (x3 : Int32) : Prop :=
  nm (x3 + 1) fun i_1 => bk27 w a0 x1 x2 i_1
def wp_X1_move_s27 (K : Hp → Int32 → Prop) (X : Hp → String → Prop)  (bk27 : Hp → Nat → Int32 → Int32 → Int32 → Prop) (w : Hp) (a0 : Nat) (x1 : Int32) (x2 : Int32) (x3 : Int32) : Prop :=
  br ((3 : Int32) ≤ x3) (gR w a0 0 3 fun r_2 => dR r_2 fun b_3 => aI w b_3 x1 fun i_4 => gR w a0 0 3 fun r_5 => dR r_5 fun b_6 => sI w b_6 x1 x2 fun w => K w i_4) (br (x3 = x1) (wp_X1_move_b57 K X bk27 w a0 x1 x2 x3) (gR w a0 0 3 fun r_8 => dR r_8 fun b_9 => aI w b_9 x3 fun i_10 => br (i_10 = x2) (X w eIA) (wp_X1_move_b57 K X bk27 w a0 x1 x2 x3)))
def wp_X1_move_l27 (K : Hp → Int32 → Prop) (X : Hp → String → Prop)  : ((Hp × Nat × Int32 × Int32 × Int32) → Prop) → (Hp × Nat × Int32 × Int32 × Int32) → Prop := fun bk q => wp_X1_move_s27 K X  (fun w a0 x1 x2 x3 => bk (w, a0, x1, x2, x3)) q.1 q.2.1 q.2.2.1 q.2.2.2.1 q.2.2.2.2
def wp_X1_move_b27 (K : Hp → Int32 → Prop) (X : Hp → String → Prop)  (w : Hp) (a0 : Nat) (x1 : Int32) (x2 : Int32) (x3 : Int32) : Prop := lp (wp_X1_move_l27 K X ) (w, a0, x1, x2, x3)
def wp_X1_move_b15 (K : Hp → Int32 → Prop) (X : Hp → String → Prop)  (w : Hp)  : Prop :=
  X w eIA
def wp_X1_move (w : Hp) (a0 : Nat) (x1 : Int32) (x2 : Int32) (X : Hp → String → Prop) (K : Hp → Int32 → Prop) : Prop :=
  wp_X1_checkEnd w x1 X fun w => br (x2 < (1 : Int32)) (wp_X1_move_b15 K X w) (br (x2 ≤ (99 : Int32)) (wp_X1_move_b27 K X w a0 x1 x2 (0 : Int32)) (wp_X1_move_b15 K X w))
abbrev rm_X1_move : Room := { frames := 7, cells := 2, slots := 12, locals := 102 }
abbrev ws9_X1_move : List Cond := ws_ yX1_move cX1_move 4 (Option.some Jvm.ClassFile.FieldType.int)
abbrev Q9_X1_move (below : List Frame) (args : Array Value) (s : State) (G : hG) (K : Hp → Int32 → Prop) (X : Hp → String → Prop) : State → Prop := vx_MQ below (hx_Qi G K) (hx_XC G X) args s 2 12 (hx_A G)
set_option maxHeartbeats 4000000 in
set_option maxRecDepth 100000 in
theorem wk_X1_move (l : Launch) (hst : l.stackTraces = false) {G : hG} {w : Hp} {a0 : Nat} {x1 : Int32} {x2 : Int32} {K : Hp → Int32 → Prop} {X : Hp → String → Prop} (h : wp_X1_move w a0 x1 x2 X K) : hx_xMi l yX1_move (ws9_X1_move) rm_X1_move G w [.ref a0, .int x1, .int x2] K X 2 12 := by
  refine vx_ofW (cc := cX1_move) (maxL := 4) (ret := (Option.some Jvm.ClassFile.FieldType.int)) (by decide +kernel) rfl ?_
  intro p e s m args below meth c s₁ B hml hex hv
  refine hx_in (own := RX1) (av := [.ref a0, .int x1, .int x2]) (vl := [(0, va_rf (some a0)), (1, .int x1), (2, .int x2)]) rfl rfl (Nat.le_of_ble_eq_true rfl) rfl B hml hv ?_
  intro C0 hU hH hr hlocks hin ls hl
  have hx := C0.1
  have hb := C0.2.1
  have hts := C0.2.2.2.2
  have L27 : ∀ (n27 : Nat) (w : Hp) (a0 : Nat) (x1 : Int32) (x2 : Int32) (x3 : Int32), lpN (wp_X1_move_l27 K X ) n27 (w, a0, x1, x2, x3) → ∀ (H : Heap) (locs : List Loc) (ls : Array Slot), hx_H G w s H locs → lv_has ls 4 [(0, va_rf (some a0)), (1, .int x1), (2, .int x2), (3, .int x3)] → W p l e (headSpec (ws9_X1_move) rm_X1_move).room s m args below meth c H locs (1) (6) (Q9_X1_move below args s G K X) (F0 m 27 ls []) := by
    intro n27
    induction n27 with
    | zero => intro w a0 x1 x2 x3 h; exact h.elim
    | succ n27 ih27 =>
      intro w a0 x1 x2 x3 h H locs ls hH hl
      have h : wp_X1_move_s27 K X  (fun w a0 x1 x2 x3 => lpN (wp_X1_move_l27 K X ) n27 (w, a0, x1, x2, x3)) w a0 x1 x2 x3 := h
      have b57 : ∀ (w : Hp) (a0 : Nat) (x1 : Int32) (x2 : Int32) (x3 : Int32), wp_X1_move_b57 K X (fun w a0 x1 x2 x3 => lpN (wp_X1_move_l27 K X ) n27 (w, a0, x1, x2, x3)) w a0 x1 x2 x3 → ∀ (H : Heap) (locs : List Loc) (ls : Array Slot), hx_H G w s H locs → lv_has ls 4 [(0, va_rf (some a0)), (1, .int x1), (2, .int x2), (3, .int x3)] → W p l e (headSpec (ws9_X1_move) rm_X1_move).room s m args below meth c H locs (1) (6) (Q9_X1_move below args s G K X) (F0 m 57 ls []) := by
        intro w a0 x1 x2 x3 h H locs ls hH hl
        obtain ⟨i_1, ei_1⟩ : ∃ z, z = x3 + 1 := ⟨_, rfl⟩
        have h := h i_1 ei_1
        refine lv_iinc (k := 3) hx hb dX1_move_57 hl rfl (v := i_1) (by rw [ei_1]; rfl) (by decide) (lv' := [(3, .int i_1), (0, va_rf (some a0)), (1, .int x1), (2, .int x2)]) rfl (fun ls hl => ?_)
        refine lv_goto hx hb dX1_move_60 (tgt := 27) (by decide) ?_
        refine W.widen (k := 1) (n := 6) (Nat.le_of_ble_eq_true rfl) (Nat.le_of_ble_eq_true rfl) ?_
        exact ih27 _ _ _ _ _ h _ _ _ hH (lv_sub hl [1, 2, 3, 0] rfl)
      refine lv_iload_n hx hb dX1_move_27 rfl (lv_at hl 3 rfl) ?_
      refine lv_iconst (v := 3) hx hb dX1_move_28 (by decide) ?_
      refine lv_icmp_ge hx hb dX1_move_29 (tgt := 63) (by decide) (fun c_1 => ?_) (fun c_1 => ?_)
      · have h := h.1 c_1
        refine hx_aload_n C0 dX1_move_63 rfl (lv_at hl 0 rfl) ?_
        refine hx_gR C0 hU hH (ci := 0) rfl in_X1 3 (by decide) q266 (fun _ h9 => h9) h dX1_move_64 (fun r_2 h => ?_)
        refine lv_iload_n hx hb dX1_move_67 rfl (lv_at hl 1 rfl) ?_
        obtain ⟨b_3, rfl, h9⟩ := h
        have h := h9
        clear h9
        refine hx_aI C0 hU hH h dX1_move_68 (fun i_4 h => ?_)
        refine lv_istore_n hx hb dX1_move_69 rfl hl (by decide) (lv' := [(3, .int i_4), (0, va_rf (some a0)), (1, .int x1), (2, .int x2)]) rfl (fun ls hl => ?_)
        refine hx_aload_n C0 dX1_move_70 rfl (lv_at hl 1 rfl) ?_
        refine hx_gR C0 hU hH (ci := 0) rfl in_X1 3 (by decide) q266 (fun _ h9 => h9) h dX1_move_71 (fun r_5 h => ?_)
        refine lv_iload_n hx hb dX1_move_74 rfl (lv_at hl 2 rfl) ?_
        refine lv_iload_n hx hb dX1_move_75 rfl (lv_at hl 3 rfl) ?_
        obtain ⟨b_6, rfl, h9⟩ := h
        have h := h9
        clear h9
        refine hx_sI C0 hU hH h dX1_move_76 (fun w H locs hH h => ?_)
        refine lv_iload_n hx hb dX1_move_77 rfl (lv_at hl 0 rfl) ?_
        exact hx_xreti C0 hH hr hlocks h (Nat.le_of_ble_eq_true rfl) (Nat.le_of_ble_eq_true rfl) dX1_move_78
      · have h := h.2 c_1
        refine lv_iload_n hx hb dX1_move_32 rfl (lv_at hl 3 rfl) ?_
        refine lv_iload_n hx hb dX1_move_33 rfl (lv_at hl 1 rfl) ?_
        refine lv_icmp_eq hx hb dX1_move_34 (tgt := 57) (by decide) (fun c_7 => ?_) (fun c_7 => ?_)
        · have h := h.1 c_7
          refine W.widen (k := 1) (n := 6) (Nat.le_of_ble_eq_true rfl) (Nat.le_of_ble_eq_true rfl) ?_
          exact b57 _ _ _ _ _ h _ _ _ hH (lv_sub hl [0, 1, 2, 3] rfl)
        · have h := h.2 c_7
          refine hx_aload_n C0 dX1_move_37 rfl (lv_at hl 0 rfl) ?_
          refine hx_gR C0 hU hH (ci := 0) rfl in_X1 3 (by decide) q266 (fun _ h9 => h9) h dX1_move_38 (fun r_8 h => ?_)
          refine lv_iload_n hx hb dX1_move_41 rfl (lv_at hl 3 rfl) ?_
          obtain ⟨b_9, rfl, h9⟩ := h
          have h := h9
          clear h9
          refine hx_aI C0 hU hH h dX1_move_42 (fun i_10 h => ?_)
          refine lv_iload_n hx hb dX1_move_43 rfl (lv_at hl 2 rfl) ?_
          refine lv_icmp_ne hx hb dX1_move_44 (tgt := 57) (by decide) (fun c_11 => ?_) (fun c_11 => ?_)
          · have h := h.2 c_11
            refine W.widen (k := 1) (n := 6) (Nat.le_of_ble_eq_true rfl) (Nat.le_of_ble_eq_true rfl) ?_
            exact b57 _ _ _ _ _ h _ _ _ hH (lv_sub hl [0, 1, 2, 3] rfl)
          · have h := h.1 c_11
            exact hx_throw C0 hU hH hst (text := "address") (cls := eIA) (names := hx_names) hl.1 rfl hx_names_fit q496 q75 q585 hat_eIA good_eIA_51 dX1_move_47 dX1_move_50 dX1_move_51 dX1_move_53 dX1_move_56 hex hlocks h (Nat.le_of_ble_eq_true rfl) (Nat.le_of_ble_eq_true rfl) (Nat.le_of_ble_eq_true rfl) (Nat.le_of_ble_eq_true rfl) (Nat.le_of_ble_eq_true rfl) (Nat.le_of_ble_eq_true rfl)
  have b15 : ∀ (w : Hp) , wp_X1_move_b15 K X  w  → ∀ (H : Heap) (locs : List Loc) (ls : Array Slot), hx_H G w s H locs → lv_has ls 4 [] → W p l e (headSpec (ws9_X1_move) rm_X1_move).room s m args below meth c H locs (1) (6) (Q9_X1_move below args s G K X) (F0 m 15 ls []) := by
    intro w  h H locs ls hH hl
    exact hx_throw C0 hU hH hst (text := "address") (cls := eIA) (names := hx_names) hl.1 rfl hx_names_fit q496 q75 q585 hat_eIA good_eIA_51 dX1_move_15 dX1_move_18 dX1_move_19 dX1_move_21 dX1_move_24 hex hlocks h (Nat.le_of_ble_eq_true rfl) (Nat.le_of_ble_eq_true rfl) (Nat.le_of_ble_eq_true rfl) (Nat.le_of_ble_eq_true rfl) (Nat.le_of_ble_eq_true rfl) (Nat.le_of_ble_eq_true rfl)
  refine lv_iload_n hx hb dX1_move_0 rfl (lv_at hl 1 rfl) ?_
  refine hx_xSv C0 hU hH (As := [.int x1]) (wk_X1_checkEnd l hst h) (va_cwS 1 hts (lw_S q569 q570 q60 q571) rfl rfl rfl (by decide +kernel) ⟨Nat.le_of_ble_eq_true rfl, Nat.le_of_ble_eq_true rfl⟩) rfl hl.1 rfl (Nat.le_of_ble_eq_true rfl) dX1_move_1 ⟨Nat.le_of_ble_eq_true rfl, Nat.le_of_ble_eq_true rfl⟩ (fun E ce q9 w H locs hH hXE h1 h2 h3 => hx_xout hH hXE h1 h2 h3 hex hlocks (Nat.le_of_ble_eq_true rfl) (Nat.le_of_ble_eq_true rfl)) (fun w H locs hH h => ?_)
  refine lv_iload_n hx hb dX1_move_4 rfl (lv_at hl 2 rfl) ?_
  refine lv_iconst (v := 1) hx hb dX1_move_5 (by decide) ?_
  refine lv_icmp_lt hx hb dX1_move_6 (tgt := 15) (by decide) (fun c_1 => ?_) (fun c_1 => ?_)
  · have h := h.1 c_1
    refine W.widen (k := 1) (n := 6) (Nat.le_of_ble_eq_true rfl) (Nat.le_of_ble_eq_true rfl) ?_
    exact b15 _  h _ _ _ hH (lv_sub hl [] rfl)
  · have h := h.2 c_1
    refine lv_iload_n hx hb dX1_move_9 rfl (lv_at hl 2 rfl) ?_
    refine lv_bipush (v := 99) hx hb dX1_move_10 (by decide) ?_
    refine lv_icmp_le hx hb dX1_move_12 (tgt := 25) (by decide) (fun c_2 => ?_) (fun c_2 => ?_)
    · have h := h.1 c_2
      refine lv_iconst (v := 0) hx hb dX1_move_25 (by decide) ?_
      refine lv_istore_n hx hb dX1_move_26 rfl hl (by decide) (lv' := [(3, .int (0 : Int32)), (0, va_rf (some a0)), (1, .int x1), (2, .int x2)]) rfl (fun ls hl => ?_)
      obtain ⟨n9, h⟩ := h
      refine W.widen (k := 1) (n := 6) (Nat.le_of_ble_eq_true rfl) (Nat.le_of_ble_eq_true rfl) ?_
      exact L27 n9 _ _ _ _ _ h _ _ _ hH (lv_sub hl [1, 2, 3, 0] rfl)
    · have h := h.2 c_2
      refine W.widen (k := 1) (n := 6) (Nat.le_of_ble_eq_true rfl) (Nat.le_of_ble_eq_true rfl) ?_
      exact b15 _  h _ _ _ hH (lv_sub hl [] rfl)
def wp_X1_load (w : Hp) (a0 : Nat) (x1 : Int32) (x2 : Int32) (X : Hp → String → Prop) (K : Hp → Int32 → Prop) : Prop :=
  wp_X1_checkEnd w x1 X fun w => gR w a0 0 4 fun r_1 => dR r_1 fun b_2 => aZ w b_2 x1 fun i_3 => gR w a0 0 4 fun r_4 => dR r_4 fun b_5 => sZ w b_5 x1 x2 fun w => gd (i_3 = 0 ∨ i_3 = 1) <| K w i_3
abbrev rm_X1_load : Room := { frames := 7, cells := 1, slots := 6, locals := 102 }
abbrev ws9_X1_load : List Cond := ws_ yX1_load cX1_load 4 (Option.some Jvm.ClassFile.FieldType.boolean)
abbrev Q9_X1_load (below : List Frame) (args : Array Value) (s : State) (G : hG) (K : Hp → Int32 → Prop) (X : Hp → String → Prop) : State → Prop := vx_MQ below (hx_Qi G K) (hx_XC G X) args s 1 6 (hx_A G)
set_option maxHeartbeats 4000000 in
set_option maxRecDepth 100000 in
theorem wk_X1_load (l : Launch) (hst : l.stackTraces = false) {G : hG} {w : Hp} {a0 : Nat} {x1 : Int32} {x2 : Int32} {K : Hp → Int32 → Prop} {X : Hp → String → Prop} (h : wp_X1_load w a0 x1 x2 X K) : hx_xMi l yX1_load (ws9_X1_load) rm_X1_load G w [.ref a0, .int x1, .int x2] K X 1 6 := by
  refine vx_ofW (cc := cX1_load) (maxL := 4) (ret := (Option.some Jvm.ClassFile.FieldType.boolean)) (by decide +kernel) rfl ?_
  intro p e s m args below meth c s₁ B hml hex hv
  refine hx_in (own := RX1) (av := [.ref a0, .int x1, .int x2]) (vl := [(0, va_rf (some a0)), (1, .int x1), (2, .int x2)]) rfl rfl (Nat.le_of_ble_eq_true rfl) rfl B hml hv ?_
  intro C0 hU hH hr hlocks hin ls hl
  have hx := C0.1
  have hb := C0.2.1
  have hts := C0.2.2.2.2
  refine lv_iload_n hx hb dX1_load_0 rfl (lv_at hl 1 rfl) ?_
  refine hx_xSv C0 hU hH (As := [.int x1]) (wk_X1_checkEnd l hst h) (va_cwS 1 hts (lw_S q569 q570 q60 q571) rfl rfl rfl (by decide +kernel) ⟨Nat.le_of_ble_eq_true rfl, Nat.le_of_ble_eq_true rfl⟩) rfl hl.1 rfl (Nat.le_of_ble_eq_true rfl) dX1_load_1 ⟨Nat.le_of_ble_eq_true rfl, Nat.le_of_ble_eq_true rfl⟩ (fun E ce q9 w H locs hH hXE h1 h2 h3 => hx_xout hH hXE h1 h2 h3 hex hlocks (Nat.le_of_ble_eq_true rfl) (Nat.le_of_ble_eq_true rfl)) (fun w H locs hH h => ?_)
  refine hx_aload_n C0 dX1_load_4 rfl (lv_at hl 0 rfl) ?_
  refine hx_gR C0 hU hH (ci := 0) rfl in_X1 4 (by decide) q267 (fun _ h9 => h9) h dX1_load_5 (fun r_1 h => ?_)
  refine lv_iload_n hx hb dX1_load_8 rfl (lv_at hl 1 rfl) ?_
  obtain ⟨b_2, rfl, h9⟩ := h
  have h := h9
  clear h9
  refine hx_aZ C0 hU hH h dX1_load_9 (fun i_3 h => ?_)
  refine lv_istore_n hx hb dX1_load_10 rfl hl (by decide) (lv' := [(3, .int i_3), (0, va_rf (some a0)), (1, .int x1), (2, .int x2)]) rfl (fun ls hl => ?_)
  refine hx_aload_n C0 dX1_load_11 rfl (lv_at hl 1 rfl) ?_
  refine hx_gR C0 hU hH (ci := 0) rfl in_X1 4 (by decide) q267 (fun _ h9 => h9) h dX1_load_12 (fun r_4 h => ?_)
  refine lv_iload_n hx hb dX1_load_15 rfl (lv_at hl 2 rfl) ?_
  refine lv_iload_n hx hb dX1_load_16 rfl (lv_at hl 3 rfl) ?_
  obtain ⟨b_5, rfl, h9⟩ := h
  have h := h9
  clear h9
  refine hx_sZ C0 hU hH h dX1_load_17 (fun w H locs hH h => ?_)
  refine lv_iload_n hx hb dX1_load_18 rfl (lv_at hl 0 rfl) ?_
  obtain ⟨hz, h⟩ := h
  exact hx_xretz C0 hH hr hlocks hz h (Nat.le_of_ble_eq_true rfl) (Nat.le_of_ble_eq_true rfl) dX1_load_19
def wp_X1_allow_b153 (K : Hp → Int32 → Prop) (X : Hp → String → Prop)  (w : Hp) (a6 : Nat) : Prop :=
  gI w a6 1 3 fun i_1 => K w i_1
def wp_X1_allow_b103 (K : Hp → Int32 → Prop) (X : Hp → String → Prop)  (w : Hp) (x2 : Int32) (x4 : Int32) (x5 : Int32) (a6 : Nat) (x7 : Int32) : Prop :=
  gR w a6 1 0 fun r_1 => dR r_1 fun b_2 => sI w b_2 x7 x5 fun w => gR w a6 1 1 fun r_3 => dR r_3 fun b_4 => sI w b_4 x7 x4 fun w => gR w a6 1 2 fun r_5 => dR r_5 fun b_6 => sI w b_6 x7 x2 fun w => gI w a6 1 3 fun i_7 => br (x7 = i_7) (gI w a6 1 3 fun i_9 => pV w a6 1 3 (.int (i_9 + (1 : Int32))) fun w => wp_X1_allow_b153 K X w a6) (wp_X1_allow_b153 K X w a6)
def wp_X1_allow_b36 (K : Hp → Int32 → Prop) (X : Hp → String → Prop)  (w : Hp)  : Prop :=
  X w eIA
def wp_X1_allow (w : Hp) (a0 : Nat) (x1 : Int32) (x2 : Int32) (x3 : Int32) (x4 : Int32) (X : Hp → String → Prop) (K : Hp → Int32 → Prop) : Prop :=
  wp_X1_checkEnd w x1 X fun w => wp_X1_checkEnd w x2 X fun w => br (x2 = x1) (wp_X1_allow_b36 K X w) (br (x3 < 0) (wp_X1_allow_b36 K X w) (br ((255 : Int32) < x3) (wp_X1_allow_b36 K X w) (br (x4 < 0) (wp_X1_allow_b36 K X w) (br (x4 ≤ (8 : Int32)) (wp_X1_cut w x3 x4 fun w i_6 => gR w a0 0 5 fun r_7 => dR r_7 fun b_8 => aR w b_8 x1 fun r_9 => dR r_9 fun b_10 => isO w b_10 1 <| wp_X2_place w b_10 i_6 x4 fun w i_11 => gI w b_10 1 3 fun i_12 => br (i_11 = i_12) (gI w b_10 1 3 fun i_14 => br (i_14 = (8 : Int32)) (X w eIS) (wp_X1_allow_b103 K X w x2 x4 i_6 b_10 i_11)) (wp_X1_allow_b103 K X w x2 x4 i_6 b_10 i_11)) (wp_X1_allow_b36 K X w)))))
abbrev rm_X1_allow : Room := { frames := 7, cells := 3, slots := 18, locals := 102 }
abbrev ws9_X1_allow : List Cond := ws_ yX1_allow cX1_allow 8 (Option.some Jvm.ClassFile.FieldType.int)
abbrev Q9_X1_allow (below : List Frame) (args : Array Value) (s : State) (G : hG) (K : Hp → Int32 → Prop) (X : Hp → String → Prop) : State → Prop := vx_MQ below (hx_Qi G K) (hx_XC G X) args s 3 18 (hx_A G)
set_option maxHeartbeats 4000000 in
set_option maxRecDepth 100000 in
theorem wk_X1_allow (l : Launch) (hst : l.stackTraces = false) {G : hG} {w : Hp} {a0 : Nat} {x1 : Int32} {x2 : Int32} {x3 : Int32} {x4 : Int32} {K : Hp → Int32 → Prop} {X : Hp → String → Prop} (h : wp_X1_allow w a0 x1 x2 x3 x4 X K) : hx_xMi l yX1_allow (ws9_X1_allow) rm_X1_allow G w [.ref a0, .int x1, .int x2, .int x3, .int x4] K X 3 18 := by
  refine vx_ofW (cc := cX1_allow) (maxL := 8) (ret := (Option.some Jvm.ClassFile.FieldType.int)) (by decide +kernel) rfl ?_
  intro p e s m args below meth c s₁ B hml hex hv
  refine hx_in (own := RX1) (av := [.ref a0, .int x1, .int x2, .int x3, .int x4]) (vl := [(0, va_rf (some a0)), (1, .int x1), (2, .int x2), (3, .int x3), (4, .int x4)]) rfl rfl (Nat.le_of_ble_eq_true rfl) rfl B hml hv ?_
  intro C0 hU hH hr hlocks hin ls hl
  have hx := C0.1
  have hb := C0.2.1
  have hts := C0.2.2.2.2
  have b153 : ∀ (w : Hp) (a6 : Nat), wp_X1_allow_b153 K X  w a6 → ∀ (H : Heap) (locs : List Loc) (ls : Array Slot), hx_H G w s H locs → lv_has ls 8 [(6, va_rf (some a6))] → W p l e (headSpec (ws9_X1_allow) rm_X1_allow).room s m args below meth c H locs (2) (12) (Q9_X1_allow below args s G K X) (F0 m 153 ls []) := by
    intro w a6 h H locs ls hH hl
    refine hx_aload C0 dX1_allow_153 (lv_at hl 0 rfl) ?_
    refine hx_gIN C0 hU hH (ci := 1) rfl in_X2 3 (by decide) q144 (fun _ h9 => h9) h dX1_allow_155 (fun i_1 h => ?_)
    exact hx_xreti C0 hH hr hlocks h (Nat.le_of_ble_eq_true rfl) (Nat.le_of_ble_eq_true rfl) dX1_allow_158
  have b103 : ∀ (w : Hp) (x2 : Int32) (x4 : Int32) (x5 : Int32) (a6 : Nat) (x7 : Int32), wp_X1_allow_b103 K X  w x2 x4 x5 a6 x7 → ∀ (H : Heap) (locs : List Loc) (ls : Array Slot), hx_H G w s H locs → lv_has ls 8 [(2, .int x2), (4, .int x4), (5, .int x5), (6, va_rf (some a6)), (7, .int x7)] → W p l e (headSpec (ws9_X1_allow) rm_X1_allow).room s m args below meth c H locs (2) (12) (Q9_X1_allow below args s G K X) (F0 m 103 ls []) := by
    intro w x2 x4 x5 a6 x7 h H locs ls hH hl
    refine hx_aload C0 dX1_allow_103 (lv_at hl 3 rfl) ?_
    refine hx_gRN C0 hU hH (ci := 1) rfl in_X2 0 (by decide) q138 (fun _ h9 => h9) h dX1_allow_105 (fun r_1 h => ?_)
    refine lv_iload hx hb dX1_allow_108 (lv_at hl 4 rfl) ?_
    refine lv_iload hx hb dX1_allow_110 (lv_at hl 2 rfl) ?_
    obtain ⟨b_2, rfl, h9⟩ := h
    have h := h9
    clear h9
    refine hx_sI C0 hU hH h dX1_allow_112 (fun w H locs hH h => ?_)
    refine hx_aload C0 dX1_allow_113 (lv_at hl 3 rfl) ?_
    refine hx_gRN C0 hU hH (ci := 1) rfl in_X2 1 (by decide) q140 (fun _ h9 => h9) h dX1_allow_115 (fun r_3 h => ?_)
    refine lv_iload hx hb dX1_allow_118 (lv_at hl 4 rfl) ?_
    refine lv_iload hx hb dX1_allow_120 (lv_at hl 1 rfl) ?_
    obtain ⟨b_4, rfl, h9⟩ := h
    have h := h9
    clear h9
    refine hx_sI C0 hU hH h dX1_allow_122 (fun w H locs hH h => ?_)
    refine hx_aload C0 dX1_allow_123 (lv_at hl 3 rfl) ?_
    refine hx_gRN C0 hU hH (ci := 1) rfl in_X2 2 (by decide) q142 (fun _ h9 => h9) h dX1_allow_125 (fun r_5 h => ?_)
    refine lv_iload hx hb dX1_allow_128 (lv_at hl 4 rfl) ?_
    refine lv_iload_n hx hb dX1_allow_130 rfl (lv_at hl 0 rfl) ?_
    obtain ⟨b_6, rfl, h9⟩ := h
    have h := h9
    clear h9
    refine hx_sI C0 hU hH h dX1_allow_131 (fun w H locs hH h => ?_)
    refine lv_iload hx hb dX1_allow_132 (lv_at hl 4 rfl) ?_
    refine hx_aload C0 dX1_allow_134 (lv_at hl 3 rfl) ?_
    refine hx_gIN C0 hU hH (ci := 1) rfl in_X2 3 (by decide) q144 (fun _ h9 => h9) h dX1_allow_136 (fun i_7 h => ?_)
    refine lv_icmp_ne hx hb dX1_allow_139 (tgt := 153) (by decide) (fun c_8 => ?_) (fun c_8 => ?_)
    · have h := h.2 c_8
      refine W.widen (k := 2) (n := 12) (Nat.le_of_ble_eq_true rfl) (Nat.le_of_ble_eq_true rfl) ?_
      exact b153 _ _ h _ _ _ hH (lv_sub hl [3] rfl)
    · have h := h.1 c_8
      refine hx_aload C0 dX1_allow_142 (lv_at hl 3 rfl) ?_
      refine lv_dup hx hb dX1_allow_144 rfl ?_
      refine hx_gIN C0 hU hH (ci := 1) rfl in_X2 3 (by decide) q144 (fun _ h9 => h9) h dX1_allow_145 (fun i_9 h => ?_)
      refine lv_iconst (v := 1) hx hb dX1_allow_148 (by decide) ?_
      refine lv_iadd hx hb dX1_allow_149 ?_
      refine hx_pVN C0 hU hH (ci := 1) rfl in_X2 tyX2 tyX2_ok nmX2 3 (by decide) q144 (fun _ h9 => h9) rfl rfl rfl h dX1_allow_150 (fun w H locs hH h => ?_)
      refine W.widen (k := 2) (n := 12) (Nat.le_of_ble_eq_true rfl) (Nat.le_of_ble_eq_true rfl) ?_
      exact b153 _ _ h _ _ _ hH (lv_sub hl [3] rfl)
  have b36 : ∀ (w : Hp) , wp_X1_allow_b36 K X  w  → ∀ (H : Heap) (locs : List Loc) (ls : Array Slot), hx_H G w s H locs → lv_has ls 8 [] → W p l e (headSpec (ws9_X1_allow) rm_X1_allow).room s m args below meth c H locs (2) (12) (Q9_X1_allow below args s G K X) (F0 m 36 ls []) := by
    intro w  h H locs ls hH hl
    exact hx_throw C0 hU hH hst (text := "route") (cls := eIA) (names := hx_names) hl.1 rfl hx_names_fit q496 q75 q600 hat_eIA good_eIA_51 dX1_allow_36 dX1_allow_39 dX1_allow_40 dX1_allow_42 dX1_allow_45 hex hlocks h (Nat.le_of_ble_eq_true rfl) (Nat.le_of_ble_eq_true rfl) (Nat.le_of_ble_eq_true rfl) (Nat.le_of_ble_eq_true rfl) (Nat.le_of_ble_eq_true rfl) (Nat.le_of_ble_eq_true rfl)
  refine lv_iload_n hx hb dX1_allow_0 rfl (lv_at hl 1 rfl) ?_
  refine hx_xSv C0 hU hH (As := [.int x1]) (wk_X1_checkEnd l hst h) (va_cwS 1 hts (lw_S q569 q570 q60 q571) rfl rfl rfl (by decide +kernel) ⟨Nat.le_of_ble_eq_true rfl, Nat.le_of_ble_eq_true rfl⟩) rfl hl.1 rfl (Nat.le_of_ble_eq_true rfl) dX1_allow_1 ⟨Nat.le_of_ble_eq_true rfl, Nat.le_of_ble_eq_true rfl⟩ (fun E ce q9 w H locs hH hXE h1 h2 h3 => hx_xout hH hXE h1 h2 h3 hex hlocks (Nat.le_of_ble_eq_true rfl) (Nat.le_of_ble_eq_true rfl)) (fun w H locs hH h => ?_)
  refine lv_iload_n hx hb dX1_allow_4 rfl (lv_at hl 2 rfl) ?_
  refine hx_xSv C0 hU hH (As := [.int x2]) (wk_X1_checkEnd l hst h) (va_cwS 1 hts (lw_S q569 q570 q60 q571) rfl rfl rfl (by decide +kernel) ⟨Nat.le_of_ble_eq_true rfl, Nat.le_of_ble_eq_true rfl⟩) rfl hl.1 rfl (Nat.le_of_ble_eq_true rfl) dX1_allow_5 ⟨Nat.le_of_ble_eq_true rfl, Nat.le_of_ble_eq_true rfl⟩ (fun E ce q9 w H locs hH hXE h1 h2 h3 => hx_xout hH hXE h1 h2 h3 hex hlocks (Nat.le_of_ble_eq_true rfl) (Nat.le_of_ble_eq_true rfl)) (fun w H locs hH h => ?_)
  refine lv_iload_n hx hb dX1_allow_8 rfl (lv_at hl 2 rfl) ?_
  refine lv_iload_n hx hb dX1_allow_9 rfl (lv_at hl 1 rfl) ?_
  refine lv_icmp_eq hx hb dX1_allow_10 (tgt := 36) (by decide) (fun c_1 => ?_) (fun c_1 => ?_)
  · have h := h.1 c_1
    refine W.widen (k := 2) (n := 12) (Nat.le_of_ble_eq_true rfl) (Nat.le_of_ble_eq_true rfl) ?_
    exact b36 _  h _ _ _ hH (lv_sub hl [] rfl)
  · have h := h.2 c_1
    refine lv_iload_n hx hb dX1_allow_13 rfl (lv_at hl 3 rfl) ?_
    refine lv_if_lt hx hb dX1_allow_14 (tgt := 36) (by decide) (fun c_2 => ?_) (fun c_2 => ?_)
    · have h := h.1 c_2
      refine W.widen (k := 2) (n := 12) (Nat.le_of_ble_eq_true rfl) (Nat.le_of_ble_eq_true rfl) ?_
      exact b36 _  h _ _ _ hH (lv_sub hl [] rfl)
    · have h := h.2 c_2
      refine lv_iload_n hx hb dX1_allow_17 rfl (lv_at hl 3 rfl) ?_
      refine lv_sipush (v := 255) hx hb dX1_allow_18 (by decide) ?_
      refine lv_icmp_gt hx hb dX1_allow_21 (tgt := 36) (by decide) (fun c_3 => ?_) (fun c_3 => ?_)
      · have h := h.1 c_3
        refine W.widen (k := 2) (n := 12) (Nat.le_of_ble_eq_true rfl) (Nat.le_of_ble_eq_true rfl) ?_
        exact b36 _  h _ _ _ hH (lv_sub hl [] rfl)
      · have h := h.2 c_3
        refine lv_iload hx hb dX1_allow_24 (lv_at hl 4 rfl) ?_
        refine lv_if_lt hx hb dX1_allow_26 (tgt := 36) (by decide) (fun c_4 => ?_) (fun c_4 => ?_)
        · have h := h.1 c_4
          refine W.widen (k := 2) (n := 12) (Nat.le_of_ble_eq_true rfl) (Nat.le_of_ble_eq_true rfl) ?_
          exact b36 _  h _ _ _ hH (lv_sub hl [] rfl)
        · have h := h.2 c_4
          refine lv_iload hx hb dX1_allow_29 (lv_at hl 4 rfl) ?_
          refine lv_bipush (v := 8) hx hb dX1_allow_31 (by decide) ?_
          refine lv_icmp_le hx hb dX1_allow_33 (tgt := 46) (by decide) (fun c_5 => ?_) (fun c_5 => ?_)
          · have h := h.1 c_5
            refine lv_iload_n hx hb dX1_allow_46 rfl (lv_at hl 3 rfl) ?_
            refine lv_iload hx hb dX1_allow_47 (lv_at hl 4 rfl) ?_
            refine hx_Si C0 hU hH (As := [.int x3, .int x4]) (wk_X1_cut l h) (va_cwS 2 hts (lw_S q601 q602 q60 q603) rfl rfl rfl (by decide +kernel) ⟨Nat.le_of_ble_eq_true rfl, Nat.le_of_ble_eq_true rfl⟩) rfl hl.1 rfl (Nat.le_of_ble_eq_true rfl) dX1_allow_49 ⟨Nat.le_of_ble_eq_true rfl, Nat.le_of_ble_eq_true rfl⟩ (fun i_6 w H locs hH h => ?_)
            refine lv_istore hx hb dX1_allow_52 hl (by decide) (lv' := [(5, .int i_6), (0, va_rf (some a0)), (1, .int x1), (2, .int x2), (3, .int x3), (4, .int x4)]) rfl (fun ls hl => ?_)
            refine hx_aload_n C0 dX1_allow_54 rfl (lv_at hl 1 rfl) ?_
            refine hx_gR C0 hU hH (ci := 0) rfl in_X1 5 (by decide) q268 (fun _ h9 => h9) h dX1_allow_55 (fun r_7 h => ?_)
            refine lv_iload_n hx hb dX1_allow_58 rfl (lv_at hl 2 rfl) ?_
            obtain ⟨b_8, rfl, h9⟩ := h
            have h := h9
            clear h9
            refine hx_aR C0 hU hH h dX1_allow_59 (fun r_9 h => ?_)
            refine hx_astore C0 dX1_allow_60 hl (by decide) (lv' := [(6, va_rf r_9), (5, .int i_6), (0, va_rf (some a0)), (1, .int x1), (2, .int x2), (3, .int x3), (4, .int x4)]) rfl (fun ls hl => ?_)
            refine hx_aload C0 dX1_allow_62 (lv_at hl 0 rfl) ?_
            refine lv_iload hx hb dX1_allow_64 (lv_at hl 1 rfl) ?_
            refine lv_iload hx hb dX1_allow_66 (lv_at hl 6 rfl) ?_
            obtain ⟨b_10, rfl, h9⟩ := h
            have h := h9
            clear h9
            obtain ⟨ho, h⟩ := h
            refine hx_VNi C0 hU hH (As := [.int i_6, .int x4]) (wk_X2_place l h) ⟨va_cnB 2 hts (lw_meth q607) rfl rfl rfl (hU.2.2.1 _ q604 rfl) (hts _ q64) (by decide +kernel) ⟨Nat.le_of_ble_eq_true rfl, Nat.le_of_ble_eq_true rfl⟩, hts _ q606, hts _ qs10⟩ (hx_recv hU hH (ci := 1) rfl ho) rfl hl.1 rfl (Nat.le_of_ble_eq_true rfl) dX1_allow_68 ⟨Nat.le_of_ble_eq_true rfl, Nat.le_of_ble_eq_true rfl⟩ (fun i_11 w H locs hH h => ?_)
            refine lv_istore hx hb dX1_allow_71 hl (by decide) (lv' := [(7, .int i_11), (6, va_rf (some b_10)), (5, .int i_6), (0, va_rf (some a0)), (1, .int x1), (2, .int x2), (3, .int x3), (4, .int x4)]) rfl (fun ls hl => ?_)
            refine lv_iload hx hb dX1_allow_73 (lv_at hl 0 rfl) ?_
            refine hx_aload C0 dX1_allow_75 (lv_at hl 1 rfl) ?_
            refine hx_gIN C0 hU hH (ci := 1) rfl in_X2 3 (by decide) q144 (fun _ h9 => h9) h dX1_allow_77 (fun i_12 h => ?_)
            refine lv_icmp_ne hx hb dX1_allow_80 (tgt := 103) (by decide) (fun c_13 => ?_) (fun c_13 => ?_)
            · have h := h.2 c_13
              refine W.widen (k := 2) (n := 12) (Nat.le_of_ble_eq_true rfl) (Nat.le_of_ble_eq_true rfl) ?_
              exact b103 _ _ _ _ _ _ h _ _ _ hH (lv_sub hl [5, 7, 2, 1, 0] rfl)
            · have h := h.1 c_13
              refine hx_aload C0 dX1_allow_83 (lv_at hl 1 rfl) ?_
              refine hx_gIN C0 hU hH (ci := 1) rfl in_X2 3 (by decide) q144 (fun _ h9 => h9) h dX1_allow_85 (fun i_14 h => ?_)
              refine lv_bipush (v := 8) hx hb dX1_allow_88 (by decide) ?_
              refine lv_icmp_ne hx hb dX1_allow_90 (tgt := 103) (by decide) (fun c_15 => ?_) (fun c_15 => ?_)
              · have h := h.2 c_15
                refine W.widen (k := 2) (n := 12) (Nat.le_of_ble_eq_true rfl) (Nat.le_of_ble_eq_true rfl) ?_
                exact b103 _ _ _ _ _ _ h _ _ _ hH (lv_sub hl [5, 7, 2, 1, 0] rfl)
              · have h := h.1 c_15
                exact hx_throw C0 hU hH hst (text := "full") (cls := eIS) (names := hx_names) hl.1 rfl hx_names_fit q522 q76 q608 hat_eIS good_eIS_63 dX1_allow_93 dX1_allow_96 dX1_allow_97 dX1_allow_99 dX1_allow_102 hex hlocks h (Nat.le_of_ble_eq_true rfl) (Nat.le_of_ble_eq_true rfl) (Nat.le_of_ble_eq_true rfl) (Nat.le_of_ble_eq_true rfl) (Nat.le_of_ble_eq_true rfl) (Nat.le_of_ble_eq_true rfl)
          · have h := h.2 c_5
            refine W.widen (k := 2) (n := 12) (Nat.le_of_ble_eq_true rfl) (Nat.le_of_ble_eq_true rfl) ?_
            exact b36 _  h _ _ _ hH (lv_sub hl [] rfl)
def wp_X1_forbid_s91 (K : Hp → Int32 → Prop) (X : Hp → String → Prop)  (bk91 : Hp → Nat → Int32 → Prop) (w : Hp) (a4 : Nat) (x6 : Int32) : Prop :=
  gI w a4 1 3 fun i_1 => br (i_1 ≤ x6) (gI w a4 1 3 fun i_3 => K w i_3) (gR w a4 1 0 fun r_4 => gR w a4 1 0 fun r_5 => dR r_5 fun b_6 => aI w b_6 (x6 + (1 : Int32)) fun i_7 => dR r_4 fun b_8 => sI w b_8 x6 i_7 fun w => gR w a4 1 1 fun r_9 => gR w a4 1 1 fun r_10 => dR r_10 fun b_11 => aI w b_11 (x6 + (1 : Int32)) fun i_12 => dR r_9 fun b_13 => sI w b_13 x6 i_12 fun w => gR w a4 1 2 fun r_14 => gR w a4 1 2 fun r_15 => dR r_15 fun b_16 => aI w b_16 (x6 + (1 : Int32)) fun i_17 => dR r_14 fun b_18 => sI w b_18 x6 i_17 fun w => nm (x6 + 1) fun i_19 => bk91 w a4 i_19)
def wp_X1_forbid_l91 (K : Hp → Int32 → Prop) (X : Hp → String → Prop)  : ((Hp × Nat × Int32) → Prop) → (Hp × Nat × Int32) → Prop := fun bk q => wp_X1_forbid_s91 K X  (fun w a4 x6 => bk (w, a4, x6)) q.1 q.2.1 q.2.2
def wp_X1_forbid_b91 (K : Hp → Int32 → Prop) (X : Hp → String → Prop)  (w : Hp) (a4 : Nat) (x6 : Int32) : Prop := lp (wp_X1_forbid_l91 K X ) (w, a4, x6)
def wp_X1_forbid_b25 (K : Hp → Int32 → Prop) (X : Hp → String → Prop)  (w : Hp)  : Prop :=
  X w eIA
def wp_X1_forbid (w : Hp) (a0 : Nat) (x1 : Int32) (x2 : Int32) (x3 : Int32) (X : Hp → String → Prop) (K : Hp → Int32 → Prop) : Prop :=
  wp_X1_checkEnd w x1 X fun w => br (x2 < 0) (wp_X1_forbid_b25 K X w) (br ((255 : Int32) < x2) (wp_X1_forbid_b25 K X w) (br (x3 < 0) (wp_X1_forbid_b25 K X w) (br (x3 ≤ (8 : Int32)) (gR w a0 0 5 fun r_5 => dR r_5 fun b_6 => aR w b_6 x1 fun r_7 => wp_X1_cut w x2 x3 fun w i_8 => dR r_7 fun b_9 => isO w b_9 1 <| wp_X2_place w b_9 i_8 x3 fun w i_10 => gI w b_9 1 3 fun i_11 => br (i_10 = i_11) (X w eNS) (gI w b_9 1 3 fun i_13 => pV w b_9 1 3 (.int (i_13 - (1 : Int32))) fun w => wp_X1_forbid_b91 K X w b_9 i_10)) (wp_X1_forbid_b25 K X w))))
abbrev rm_X1_forbid : Room := { frames := 7, cells := 2, slots := 12, locals := 102 }
abbrev ws9_X1_forbid : List Cond := ws_ yX1_forbid cX1_forbid 7 (Option.some Jvm.ClassFile.FieldType.int)
abbrev Q9_X1_forbid (below : List Frame) (args : Array Value) (s : State) (G : hG) (K : Hp → Int32 → Prop) (X : Hp → String → Prop) : State → Prop := vx_MQ below (hx_Qi G K) (hx_XC G X) args s 2 12 (hx_A G)
set_option maxHeartbeats 4000000 in
set_option maxRecDepth 100000 in
theorem wk_X1_forbid (l : Launch) (hst : l.stackTraces = false) {G : hG} {w : Hp} {a0 : Nat} {x1 : Int32} {x2 : Int32} {x3 : Int32} {K : Hp → Int32 → Prop} {X : Hp → String → Prop} (h : wp_X1_forbid w a0 x1 x2 x3 X K) : hx_xMi l yX1_forbid (ws9_X1_forbid) rm_X1_forbid G w [.ref a0, .int x1, .int x2, .int x3] K X 2 12 := by
  refine vx_ofW (cc := cX1_forbid) (maxL := 7) (ret := (Option.some Jvm.ClassFile.FieldType.int)) (by decide +kernel) rfl ?_
  intro p e s m args below meth c s₁ B hml hex hv
  refine hx_in (own := RX1) (av := [.ref a0, .int x1, .int x2, .int x3]) (vl := [(0, va_rf (some a0)), (1, .int x1), (2, .int x2), (3, .int x3)]) rfl rfl (Nat.le_of_ble_eq_true rfl) rfl B hml hv ?_
  intro C0 hU hH hr hlocks hin ls hl
  have hx := C0.1
  have hb := C0.2.1
  have hts := C0.2.2.2.2
  have L91 : ∀ (n91 : Nat) (w : Hp) (a4 : Nat) (x6 : Int32), lpN (wp_X1_forbid_l91 K X ) n91 (w, a4, x6) → ∀ (H : Heap) (locs : List Loc) (ls : Array Slot), hx_H G w s H locs → lv_has ls 7 [(4, va_rf (some a4)), (6, .int x6)] → W p l e (headSpec (ws9_X1_forbid) rm_X1_forbid).room s m args below meth c H locs (1) (6) (Q9_X1_forbid below args s G K X) (F0 m 91 ls []) := by
    intro n91
    induction n91 with
    | zero => intro w a4 x6 h; exact h.elim
    | succ n91 ih91 =>
      intro w a4 x6 h H locs ls hH hl
      have h : wp_X1_forbid_s91 K X  (fun w a4 x6 => lpN (wp_X1_forbid_l91 K X ) n91 (w, a4, x6)) w a4 x6 := h
      refine lv_iload hx hb dX1_forbid_91 (lv_at hl 1 rfl) ?_
      refine hx_aload C0 dX1_forbid_93 (lv_at hl 0 rfl) ?_
      refine hx_gIN C0 hU hH (ci := 1) rfl in_X2 3 (by decide) q144 (fun _ h9 => h9) h dX1_forbid_95 (fun i_1 h => ?_)
      refine lv_icmp_ge hx hb dX1_forbid_98 (tgt := 161) (by decide) (fun c_2 => ?_) (fun c_2 => ?_)
      · have h := h.1 c_2
        refine hx_aload C0 dX1_forbid_161 (lv_at hl 0 rfl) ?_
        refine hx_gIN C0 hU hH (ci := 1) rfl in_X2 3 (by decide) q144 (fun _ h9 => h9) h dX1_forbid_163 (fun i_3 h => ?_)
        exact hx_xreti C0 hH hr hlocks h (Nat.le_of_ble_eq_true rfl) (Nat.le_of_ble_eq_true rfl) dX1_forbid_166
      · have h := h.2 c_2
        refine hx_aload C0 dX1_forbid_101 (lv_at hl 0 rfl) ?_
        refine hx_gRN C0 hU hH (ci := 1) rfl in_X2 0 (by decide) q138 (fun _ h9 => h9) h dX1_forbid_103 (fun r_4 h => ?_)
        refine lv_iload hx hb dX1_forbid_106 (lv_at hl 1 rfl) ?_
        refine hx_aload C0 dX1_forbid_108 (lv_at hl 0 rfl) ?_
        refine hx_gRN C0 hU hH (ci := 1) rfl in_X2 0 (by decide) q138 (fun _ h9 => h9) h dX1_forbid_110 (fun r_5 h => ?_)
        refine lv_iload hx hb dX1_forbid_113 (lv_at hl 1 rfl) ?_
        refine lv_iconst (v := 1) hx hb dX1_forbid_115 (by decide) ?_
        refine lv_iadd hx hb dX1_forbid_116 ?_
        obtain ⟨b_6, rfl, h9⟩ := h
        have h := h9
        clear h9
        refine hx_aI C0 hU hH h dX1_forbid_117 (fun i_7 h => ?_)
        obtain ⟨b_8, rfl, h9⟩ := h
        have h := h9
        clear h9
        refine hx_sI C0 hU hH h dX1_forbid_118 (fun w H locs hH h => ?_)
        refine hx_aload C0 dX1_forbid_119 (lv_at hl 0 rfl) ?_
        refine hx_gRN C0 hU hH (ci := 1) rfl in_X2 1 (by decide) q140 (fun _ h9 => h9) h dX1_forbid_121 (fun r_9 h => ?_)
        refine lv_iload hx hb dX1_forbid_124 (lv_at hl 1 rfl) ?_
        refine hx_aload C0 dX1_forbid_126 (lv_at hl 0 rfl) ?_
        refine hx_gRN C0 hU hH (ci := 1) rfl in_X2 1 (by decide) q140 (fun _ h9 => h9) h dX1_forbid_128 (fun r_10 h => ?_)
        refine lv_iload hx hb dX1_forbid_131 (lv_at hl 1 rfl) ?_
        refine lv_iconst (v := 1) hx hb dX1_forbid_133 (by decide) ?_
        refine lv_iadd hx hb dX1_forbid_134 ?_
        obtain ⟨b_11, rfl, h9⟩ := h
        have h := h9
        clear h9
        refine hx_aI C0 hU hH h dX1_forbid_135 (fun i_12 h => ?_)
        obtain ⟨b_13, rfl, h9⟩ := h
        have h := h9
        clear h9
        refine hx_sI C0 hU hH h dX1_forbid_136 (fun w H locs hH h => ?_)
        refine hx_aload C0 dX1_forbid_137 (lv_at hl 0 rfl) ?_
        refine hx_gRN C0 hU hH (ci := 1) rfl in_X2 2 (by decide) q142 (fun _ h9 => h9) h dX1_forbid_139 (fun r_14 h => ?_)
        refine lv_iload hx hb dX1_forbid_142 (lv_at hl 1 rfl) ?_
        refine hx_aload C0 dX1_forbid_144 (lv_at hl 0 rfl) ?_
        refine hx_gRN C0 hU hH (ci := 1) rfl in_X2 2 (by decide) q142 (fun _ h9 => h9) h dX1_forbid_146 (fun r_15 h => ?_)
        refine lv_iload hx hb dX1_forbid_149 (lv_at hl 1 rfl) ?_
        refine lv_iconst (v := 1) hx hb dX1_forbid_151 (by decide) ?_
        refine lv_iadd hx hb dX1_forbid_152 ?_
        obtain ⟨b_16, rfl, h9⟩ := h
        have h := h9
        clear h9
        refine hx_aI C0 hU hH h dX1_forbid_153 (fun i_17 h => ?_)
        obtain ⟨b_18, rfl, h9⟩ := h
        have h := h9
        clear h9
        refine hx_sI C0 hU hH h dX1_forbid_154 (fun w H locs hH h => ?_)
        obtain ⟨i_19, ei_19⟩ : ∃ z, z = x6 + 1 := ⟨_, rfl⟩
        have h := h i_19 ei_19
        refine lv_iinc (k := 1) hx hb dX1_forbid_155 hl rfl (v := i_19) (by rw [ei_19]; rfl) (by decide) (lv' := [(6, .int i_19), (4, va_rf (some a4))]) rfl (fun ls hl => ?_)
        refine lv_goto hx hb dX1_forbid_158 (tgt := 91) (by decide) ?_
        refine W.widen (k := 1) (n := 6) (Nat.le_of_ble_eq_true rfl) (Nat.le_of_ble_eq_true rfl) ?_
        exact ih91 _ _ _ h _ _ _ hH (lv_sub hl [1, 0] rfl)
  have b25 : ∀ (w : Hp) , wp_X1_forbid_b25 K X  w  → ∀ (H : Heap) (locs : List Loc) (ls : Array Slot), hx_H G w s H locs → lv_has ls 7 [] → W p l e (headSpec (ws9_X1_forbid) rm_X1_forbid).room s m args below meth c H locs (1) (6) (Q9_X1_forbid below args s G K X) (F0 m 25 ls []) := by
    intro w  h H locs ls hH hl
    exact hx_throw C0 hU hH hst (text := "route") (cls := eIA) (names := hx_names) hl.1 rfl hx_names_fit q496 q75 q600 hat_eIA good_eIA_51 dX1_forbid_25 dX1_forbid_28 dX1_forbid_29 dX1_forbid_31 dX1_forbid_34 hex hlocks h (Nat.le_of_ble_eq_true rfl) (Nat.le_of_ble_eq_true rfl) (Nat.le_of_ble_eq_true rfl) (Nat.le_of_ble_eq_true rfl) (Nat.le_of_ble_eq_true rfl) (Nat.le_of_ble_eq_true rfl)
  refine lv_iload_n hx hb dX1_forbid_0 rfl (lv_at hl 1 rfl) ?_
  refine hx_xSv C0 hU hH (As := [.int x1]) (wk_X1_checkEnd l hst h) (va_cwS 1 hts (lw_S q569 q570 q60 q571) rfl rfl rfl (by decide +kernel) ⟨Nat.le_of_ble_eq_true rfl, Nat.le_of_ble_eq_true rfl⟩) rfl hl.1 rfl (Nat.le_of_ble_eq_true rfl) dX1_forbid_1 ⟨Nat.le_of_ble_eq_true rfl, Nat.le_of_ble_eq_true rfl⟩ (fun E ce q9 w H locs hH hXE h1 h2 h3 => hx_xout hH hXE h1 h2 h3 hex hlocks (Nat.le_of_ble_eq_true rfl) (Nat.le_of_ble_eq_true rfl)) (fun w H locs hH h => ?_)
  refine lv_iload_n hx hb dX1_forbid_4 rfl (lv_at hl 2 rfl) ?_
  refine lv_if_lt hx hb dX1_forbid_5 (tgt := 25) (by decide) (fun c_1 => ?_) (fun c_1 => ?_)
  · have h := h.1 c_1
    refine W.widen (k := 1) (n := 6) (Nat.le_of_ble_eq_true rfl) (Nat.le_of_ble_eq_true rfl) ?_
    exact b25 _  h _ _ _ hH (lv_sub hl [] rfl)
  · have h := h.2 c_1
    refine lv_iload_n hx hb dX1_forbid_8 rfl (lv_at hl 2 rfl) ?_
    refine lv_sipush (v := 255) hx hb dX1_forbid_9 (by decide) ?_
    refine lv_icmp_gt hx hb dX1_forbid_12 (tgt := 25) (by decide) (fun c_2 => ?_) (fun c_2 => ?_)
    · have h := h.1 c_2
      refine W.widen (k := 1) (n := 6) (Nat.le_of_ble_eq_true rfl) (Nat.le_of_ble_eq_true rfl) ?_
      exact b25 _  h _ _ _ hH (lv_sub hl [] rfl)
    · have h := h.2 c_2
      refine lv_iload_n hx hb dX1_forbid_15 rfl (lv_at hl 3 rfl) ?_
      refine lv_if_lt hx hb dX1_forbid_16 (tgt := 25) (by decide) (fun c_3 => ?_) (fun c_3 => ?_)
      · have h := h.1 c_3
        refine W.widen (k := 1) (n := 6) (Nat.le_of_ble_eq_true rfl) (Nat.le_of_ble_eq_true rfl) ?_
        exact b25 _  h _ _ _ hH (lv_sub hl [] rfl)
      · have h := h.2 c_3
        refine lv_iload_n hx hb dX1_forbid_19 rfl (lv_at hl 3 rfl) ?_
        refine lv_bipush (v := 8) hx hb dX1_forbid_20 (by decide) ?_
        refine lv_icmp_le hx hb dX1_forbid_22 (tgt := 35) (by decide) (fun c_4 => ?_) (fun c_4 => ?_)
        · have h := h.1 c_4
          refine hx_aload_n C0 dX1_forbid_35 rfl (lv_at hl 0 rfl) ?_
          refine hx_gR C0 hU hH (ci := 0) rfl in_X1 5 (by decide) q268 (fun _ h9 => h9) h dX1_forbid_36 (fun r_5 h => ?_)
          refine lv_iload_n hx hb dX1_forbid_39 rfl (lv_at hl 1 rfl) ?_
          obtain ⟨b_6, rfl, h9⟩ := h
          have h := h9
          clear h9
          refine hx_aR C0 hU hH h dX1_forbid_40 (fun r_7 h => ?_)
          refine hx_astore C0 dX1_forbid_41 hl (by decide) (lv' := [(4, va_rf r_7), (0, va_rf (some a0)), (1, .int x1), (2, .int x2), (3, .int x3)]) rfl (fun ls hl => ?_)
          refine hx_aload C0 dX1_forbid_43 (lv_at hl 0 rfl) ?_
          refine lv_iload_n hx hb dX1_forbid_45 rfl (lv_at hl 3 rfl) ?_
          refine lv_iload_n hx hb dX1_forbid_46 rfl (lv_at hl 4 rfl) ?_
          refine hx_Si C0 hU hH (As := [.int x2, .int x3]) (wk_X1_cut l h) (va_cwS 2 hts (lw_S q601 q602 q60 q603) rfl rfl rfl (by decide +kernel) ⟨Nat.le_of_ble_eq_true rfl, Nat.le_of_ble_eq_true rfl⟩) rfl hl.1 rfl (by cases r_7 <;> exact Nat.le_of_ble_eq_true rfl) dX1_forbid_47 ⟨Nat.le_of_ble_eq_true rfl, Nat.le_of_ble_eq_true rfl⟩ (fun i_8 w H locs hH h => ?_)
          refine lv_iload_n hx hb dX1_forbid_50 rfl (lv_at hl 4 rfl) ?_
          obtain ⟨b_9, rfl, h9⟩ := h
          have h := h9
          clear h9
          obtain ⟨ho, h⟩ := h
          refine hx_VNi C0 hU hH (As := [.int i_8, .int x3]) (wk_X2_place l h) ⟨va_cnB 2 hts (lw_meth q607) rfl rfl rfl (hU.2.2.1 _ q604 rfl) (hts _ q64) (by decide +kernel) ⟨Nat.le_of_ble_eq_true rfl, Nat.le_of_ble_eq_true rfl⟩, hts _ q606, hts _ qs10⟩ (hx_recv hU hH (ci := 1) rfl ho) rfl hl.1 rfl (Nat.le_of_ble_eq_true rfl) dX1_forbid_51 ⟨Nat.le_of_ble_eq_true rfl, Nat.le_of_ble_eq_true rfl⟩ (fun i_10 w H locs hH h => ?_)
          refine lv_istore hx hb dX1_forbid_54 hl (by decide) (lv' := [(5, .int i_10), (4, va_rf (some b_9)), (0, va_rf (some a0)), (1, .int x1), (2, .int x2), (3, .int x3)]) rfl (fun ls hl => ?_)
          refine lv_iload hx hb dX1_forbid_56 (lv_at hl 0 rfl) ?_
          refine hx_aload C0 dX1_forbid_58 (lv_at hl 1 rfl) ?_
          refine hx_gIN C0 hU hH (ci := 1) rfl in_X2 3 (by decide) q144 (fun _ h9 => h9) h dX1_forbid_60 (fun i_11 h => ?_)
          refine lv_icmp_ne hx hb dX1_forbid_63 (tgt := 76) (by decide) (fun c_12 => ?_) (fun c_12 => ?_)
          · have h := h.2 c_12
            refine hx_aload C0 dX1_forbid_76 (lv_at hl 1 rfl) ?_
            refine lv_dup hx hb dX1_forbid_78 rfl ?_
            refine hx_gIN C0 hU hH (ci := 1) rfl in_X2 3 (by decide) q144 (fun _ h9 => h9) h dX1_forbid_79 (fun i_13 h => ?_)
            refine lv_iconst (v := 1) hx hb dX1_forbid_82 (by decide) ?_
            refine lv_isub hx hb dX1_forbid_83 ?_
            refine hx_pVN C0 hU hH (ci := 1) rfl in_X2 tyX2 tyX2_ok nmX2 3 (by decide) q144 (fun _ h9 => h9) rfl rfl rfl h dX1_forbid_84 (fun w H locs hH h => ?_)
            refine lv_iload hx hb dX1_forbid_87 (lv_at hl 0 rfl) ?_
            refine lv_istore hx hb dX1_forbid_89 hl (by decide) (lv' := [(6, .int i_10), (5, .int i_10), (4, va_rf (some b_9)), (0, va_rf (some a0)), (1, .int x1), (2, .int x2), (3, .int x3)]) rfl (fun ls hl => ?_)
            obtain ⟨n9, h⟩ := h
            refine W.widen (k := 1) (n := 6) (Nat.le_of_ble_eq_true rfl) (Nat.le_of_ble_eq_true rfl) ?_
            exact L91 n9 _ _ _ h _ _ _ hH (lv_sub hl [2, 0] rfl)
          · have h := h.1 c_12
            exact hx_throwX C0 hU hH hst (text := "route") (cls := eNS) (Y := "java/lang/RuntimeException") (r := ["java/lang/Exception"]) (ix := 13) (rx := cJ14_init_2) hl.1 rfl rfl (by decide +kernel) dJ14_init_2_0 dJ14_init_2_1 dJ14_init_2_2 dJ14_init_2_5 q617 q80 q600 hat_eNS good_eNS_96 dX1_forbid_66 dX1_forbid_69 dX1_forbid_70 dX1_forbid_72 dX1_forbid_75 hex hlocks h (Nat.le_of_ble_eq_true rfl) (Nat.le_of_ble_eq_true rfl) (Nat.le_of_ble_eq_true rfl) (Nat.le_of_ble_eq_true rfl) (Nat.le_of_ble_eq_true rfl) (Nat.le_of_ble_eq_true rfl)
        · have h := h.2 c_4
          refine W.widen (k := 1) (n := 6) (Nat.le_of_ble_eq_true rfl) (Nat.le_of_ble_eq_true rfl) ?_
          exact b25 _  h _ _ _ hH (lv_sub hl [] rfl)
def wp_X1_isFresh (w : Hp) (a0 : Nat) (a1 : Nat) (K : Hp → Int32 → Prop) : Prop :=
  gR w a1 2 4 fun r_1 => br (r_1 = none) (K w (0 : Int32)) (gI w a0 0 0 fun i_3 => gR w a1 2 4 fun r_4 => dR r_4 fun b_5 => gI w b_5 5 4 fun i_6 => br ((5 : Int32) ≤ (i_3 - i_6)) (K w (0 : Int32)) (K w (1 : Int32)))
abbrev rm_X1_isFresh : Room := { frames := 0, cells := 0, slots := 0, locals := 0 }
abbrev ws9_X1_isFresh : List Cond := ws_ yX1_isFresh cX1_isFresh 2 (Option.some Jvm.ClassFile.FieldType.boolean)
abbrev Q9_X1_isFresh (below : List Frame) (args : Array Value) (s : State) (G : hG) (K : Hp → Int32 → Prop) : State → Prop := MQ below (hx_Qi G K) args s 0 0 (hx_A G)
set_option maxHeartbeats 4000000 in
set_option maxRecDepth 100000 in
theorem wk_X1_isFresh (l : Launch) {G : hG} {w : Hp} {a0 : Nat} {a1 : Nat} {K : Hp → Int32 → Prop} (h : wp_X1_isFresh w a0 a1 K) : hx_Mi l yX1_isFresh (ws9_X1_isFresh) rm_X1_isFresh G w [.ref a0, .ref a1] K 0 0 := by
  refine Met.ofW (cc := cX1_isFresh) (maxL := 2) (ret := (Option.some Jvm.ClassFile.FieldType.boolean)) (by decide +kernel) rfl ?_
  intro p e s m args below meth c s₁ B hml hv
  refine hx_in (own := RX1) (av := [.ref a0, .ref a1]) (vl := [(0, va_rf (some a0)), (1, va_rf (some a1))]) rfl rfl (Nat.le_of_ble_eq_true rfl) rfl B hml hv ?_
  intro C0 hU hH hr hlocks hin ls hl
  have hx := C0.1
  have hb := C0.2.1
  have hts := C0.2.2.2.2
  refine hx_aload_n C0 dX1_isFresh_0 rfl (lv_at hl 1 rfl) ?_
  refine hx_gRN C0 hU hH (ci := 2) rfl in_X3 4 (by decide) q231 (fun _ h9 => h9) h dX1_isFresh_1 (fun r_1 h => ?_)
  refine hx_ifnull C0 dX1_isFresh_4 (tgt := 27) (by decide) (fun c_2 => ?_) (fun c_2 => ?_)
  · have h := h.1 c_2
    refine lv_iconst (v := 0) hx hb dX1_isFresh_27 (by decide) ?_
    exact hx_retz C0 hH hr hlocks (Or.inl rfl) h (Nat.le_of_ble_eq_true rfl) (Nat.le_of_ble_eq_true rfl) dX1_isFresh_28
  · have h := h.2 c_2
    refine hx_aload_n C0 dX1_isFresh_7 rfl (lv_at hl 0 rfl) ?_
    refine hx_gI C0 hU hH (ci := 0) rfl in_X1 0 (by decide) q263 (fun _ h9 => h9) h dX1_isFresh_8 (fun i_3 h => ?_)
    refine hx_aload_n C0 dX1_isFresh_11 rfl (lv_at hl 1 rfl) ?_
    refine hx_gRN C0 hU hH (ci := 2) rfl in_X3 4 (by decide) q231 (fun _ h9 => h9) h dX1_isFresh_12 (fun r_4 h => ?_)
    obtain ⟨b_5, rfl, h9⟩ := h
    have h := h9
    clear h9
    refine hx_gIN C0 hU hH (ci := 5) rfl in_X6 4 (by decide) q726 (fun _ h9 => h9) h dX1_isFresh_15 (fun i_6 h => ?_)
    refine lv_isub hx hb dX1_isFresh_18 ?_
    refine lv_iconst (v := 5) hx hb dX1_isFresh_19 (by decide) ?_
    refine lv_icmp_ge hx hb dX1_isFresh_20 (tgt := 27) (by decide) (fun c_7 => ?_) (fun c_7 => ?_)
    · have h := h.1 c_7
      refine lv_iconst (v := 0) hx hb dX1_isFresh_27 (by decide) ?_
      exact hx_retz C0 hH hr hlocks (Or.inl rfl) h (Nat.le_of_ble_eq_true rfl) (Nat.le_of_ble_eq_true rfl) dX1_isFresh_28
    · have h := h.2 c_7
      refine lv_iconst (v := 1) hx hb dX1_isFresh_23 (by decide) ?_
      refine lv_goto hx hb dX1_isFresh_24 (tgt := 28) (by decide) ?_
      exact hx_retz C0 hH hr hlocks (Or.inr rfl) h (Nat.le_of_ble_eq_true rfl) (Nat.le_of_ble_eq_true rfl) dX1_isFresh_28
def wp_X1_isUsable (w : Hp) (a0 : Nat) (r1 : Option Nat) (K : Hp → Int32 → Prop) : Prop :=
  br (r1 = none) (K w (0 : Int32)) (dR r1 fun b_2 => isO w a0 0 <| wp_X1_age w a0 b_2 fun w i_3 => br ((30 : Int32) ≤ i_3) (K w (0 : Int32)) (gI w b_2 6 7 fun i_5 => br ((40 : Int32) ≤ i_5) (K w (0 : Int32)) (K w (1 : Int32))))
abbrev rm_X1_isUsable : Room := { frames := 1, cells := 0, slots := 0, locals := 21 }
abbrev ws9_X1_isUsable : List Cond := ws_ yX1_isUsable cX1_isUsable 2 (Option.some Jvm.ClassFile.FieldType.boolean)
abbrev Q9_X1_isUsable (below : List Frame) (args : Array Value) (s : State) (G : hG) (K : Hp → Int32 → Prop) : State → Prop := MQ below (hx_Qi G K) args s 0 0 (hx_A G)
set_option maxHeartbeats 4000000 in
set_option maxRecDepth 100000 in
theorem wk_X1_isUsable (l : Launch) {G : hG} {w : Hp} {a0 : Nat} {r1 : Option Nat} {K : Hp → Int32 → Prop} (h : wp_X1_isUsable w a0 r1 K) : hx_Mi l yX1_isUsable (ws9_X1_isUsable) rm_X1_isUsable G w [.ref a0, va_rf r1] K 0 0 := by
  refine Met.ofW (cc := cX1_isUsable) (maxL := 2) (ret := (Option.some Jvm.ClassFile.FieldType.boolean)) (by decide +kernel) rfl ?_
  intro p e s m args below meth c s₁ B hml hv
  refine hx_in (own := RX1) (av := [.ref a0, va_rf r1]) (vl := [(0, va_rf (some a0)), (1, va_rf r1)]) rfl rfl (by cases r1 <;> exact Nat.le_of_ble_eq_true rfl) (by cases r1 <;> rfl) B hml hv ?_
  intro C0 hU hH hr hlocks hin ls hl
  have hx := C0.1
  have hb := C0.2.1
  have hts := C0.2.2.2.2
  refine hx_aload_n C0 dX1_isUsable_0 rfl (lv_at hl 1 rfl) ?_
  refine hx_ifnull C0 dX1_isUsable_1 (tgt := 27) (by decide) (fun c_1 => ?_) (fun c_1 => ?_)
  · have h := h.1 c_1
    refine lv_iconst (v := 0) hx hb dX1_isUsable_27 (by decide) ?_
    exact hx_retz C0 hH hr hlocks (Or.inl rfl) h (Nat.le_of_ble_eq_true rfl) (Nat.le_of_ble_eq_true rfl) dX1_isUsable_28
  · have h := h.2 c_1
    refine hx_aload_n C0 dX1_isUsable_4 rfl (lv_at hl 0 rfl) ?_
    refine hx_aload_n C0 dX1_isUsable_5 rfl (lv_at hl 1 rfl) ?_
    obtain ⟨b_2, rfl, h9⟩ := h
    have h := h9
    clear h9
    obtain ⟨ho, h⟩ := h
    refine hx_Vi C0 hU hH (As := [va_rf (some b_2)]) (wk_X1_age l h) (cwV 1 hts (lw_V q314 q316 qs3 q60 q317) rfl rfl rfl (by decide +kernel) ⟨Nat.le_of_ble_eq_true rfl, Nat.le_of_ble_eq_true rfl⟩) (hx_recv hU hH (ci := 0) rfl ho) rfl hl.1 rfl (Nat.le_of_ble_eq_true rfl) dX1_isUsable_6 ⟨Nat.le_of_ble_eq_true rfl, Nat.le_of_ble_eq_true rfl⟩ (fun i_3 w H locs hH h => ?_)
    refine lv_bipush (v := 30) hx hb dX1_isUsable_9 (by decide) ?_
    refine lv_icmp_ge hx hb dX1_isUsable_11 (tgt := 27) (by decide) (fun c_4 => ?_) (fun c_4 => ?_)
    · have h := h.1 c_4
      refine lv_iconst (v := 0) hx hb dX1_isUsable_27 (by decide) ?_
      exact hx_retz C0 hH hr hlocks (Or.inl rfl) h (Nat.le_of_ble_eq_true rfl) (Nat.le_of_ble_eq_true rfl) dX1_isUsable_28
    · have h := h.2 c_4
      refine hx_aload_n C0 dX1_isUsable_14 rfl (lv_at hl 1 rfl) ?_
      refine hx_gIN C0 hU hH (ci := 6) rfl in_X7 7 (by decide) q816 (fun _ h9 => h9) h dX1_isUsable_15 (fun i_5 h => ?_)
      refine lv_bipush (v := 40) hx hb dX1_isUsable_18 (by decide) ?_
      refine lv_icmp_ge hx hb dX1_isUsable_20 (tgt := 27) (by decide) (fun c_6 => ?_) (fun c_6 => ?_)
      · have h := h.1 c_6
        refine lv_iconst (v := 0) hx hb dX1_isUsable_27 (by decide) ?_
        exact hx_retz C0 hH hr hlocks (Or.inl rfl) h (Nat.le_of_ble_eq_true rfl) (Nat.le_of_ble_eq_true rfl) dX1_isUsable_28
      · have h := h.2 c_6
        refine lv_iconst (v := 1) hx hb dX1_isUsable_23 (by decide) ?_
        refine lv_goto hx hb dX1_isUsable_24 (tgt := 28) (by decide) ?_
        exact hx_retz C0 hH hr hlocks (Or.inr rfl) h (Nat.le_of_ble_eq_true rfl) (Nat.le_of_ble_eq_true rfl) dX1_isUsable_28
def wp_X1_post (w : Hp) (a0 : Nat) (x1 : Int32) (x2 : Int32) (x3 : Int32) (x4 : Int32) (a5 : Nat) (K : Hp → Prop) : Prop :=
  gR w a0 0 7 fun r_1 => dR r_1 fun b_2 => isO w b_2 7 <| wp_J2_size w b_2 fun w i_3 => br ((60 : Int32) ≤ i_3) (K w) (gR w a0 0 7 fun r_5 => nO w 4 fsX5 fun w b_6 => gR w a0 0 3 fun r_7 => dR r_7 fun b_8 => aI w b_8 x1 fun i_9 => wp_X5_init w b_6 i_9 x2 x3 x4 a5 fun w => dR r_5 fun b_10 => isO w b_10 7 <| wp_J2_add w b_10 b_6 fun w i_11 => K w)
abbrev rm_X1_post : Room := { frames := 8, cells := 3, slots := 269, locals := 268 }
abbrev ws9_X1_post : List Cond := ws_ yX1_post cX1_post 6 none
abbrev Q9_X1_post (below : List Frame) (args : Array Value) (s : State) (G : hG) (K : Hp → Prop) : State → Prop := MQ below (hx_Qv G K) args s 3 269 (hx_A G)
set_option maxHeartbeats 4000000 in
set_option maxRecDepth 100000 in
theorem wk_X1_post (l : Launch) {G : hG} {w : Hp} {a0 : Nat} {x1 : Int32} {x2 : Int32} {x3 : Int32} {x4 : Int32} {a5 : Nat} {K : Hp → Prop} (h : wp_X1_post w a0 x1 x2 x3 x4 a5 K) : hx_Mv l yX1_post (ws9_X1_post) rm_X1_post G w [.ref a0, .int x1, .int x2, .int x3, .int x4, .ref a5] K 3 269 := by
  refine Met.ofW (cc := cX1_post) (maxL := 6) (ret := none) (by decide +kernel) rfl ?_
  intro p e s m args below meth c s₁ B hml hv
  refine hx_in (own := RX1) (av := [.ref a0, .int x1, .int x2, .int x3, .int x4, .ref a5]) (vl := [(0, va_rf (some a0)), (1, .int x1), (2, .int x2), (3, .int x3), (4, .int x4), (5, va_rf (some a5))]) rfl rfl (Nat.le_of_ble_eq_true rfl) rfl B hml hv ?_
  intro C0 hU hH hr hlocks hin ls hl
  have hx := C0.1
  have hb := C0.2.1
  have hts := C0.2.2.2.2
  refine hx_aload_n C0 dX1_post_0 rfl (lv_at hl 0 rfl) ?_
  refine hx_gR C0 hU hH (ci := 0) rfl in_X1 7 (by decide) q270 (fun _ h9 => h9) h dX1_post_1 (fun r_1 h => ?_)
  obtain ⟨b_2, rfl, h9⟩ := h
  have h := h9
  clear h9
  obtain ⟨ho, h⟩ := h
  refine hx_Vi C0 hU hH (As := []) (wk_J2_size l h) (cwV 0 hts (lw_V q302 q303 q304 q63 q305) rfl rfl rfl (by decide +kernel) ⟨Nat.le_of_ble_eq_true rfl, Nat.le_of_ble_eq_true rfl⟩) (hx_recv hU hH (ci := 7) rfl ho) rfl hl.1 rfl (Nat.le_of_ble_eq_true rfl) dX1_post_4 ⟨Nat.le_of_ble_eq_true rfl, Nat.le_of_ble_eq_true rfl⟩ (fun i_3 w H locs hH h => ?_)
  refine lv_bipush (v := 60) hx hb dX1_post_7 (by decide) ?_
  refine lv_icmp_ge hx hb dX1_post_9 (tgt := 39) (by decide) (fun c_4 => ?_) (fun c_4 => ?_)
  · have h := h.1 c_4
    exact hx_retv C0 hH hr hlocks h (Nat.le_of_ble_eq_true rfl) (Nat.le_of_ble_eq_true rfl) dX1_post_39
  · have h := h.2 c_4
    refine hx_aload_n C0 dX1_post_12 rfl (lv_at hl 0 rfl) ?_
    refine hx_gR C0 hU hH (ci := 0) rfl in_X1 7 (by decide) q270 (fun _ h9 => h9) h dX1_post_13 (fun r_5 h => ?_)
    refine hx_new C0 hU hH (ci := 4) rfl in_X5 tyX5 tyX5_ok q444 q448 q81 nfX5 (Nat.le_of_ble_eq_true rfl) (Nat.le_of_ble_eq_true rfl) h dX1_post_16 (fun b_6 w H locs hH h => ?_)
    refine lv_dup hx hb dX1_post_19 rfl ?_
    refine hx_aload_n C0 dX1_post_20 rfl (lv_at hl 0 rfl) ?_
    refine hx_gR C0 hU hH (ci := 0) rfl in_X1 3 (by decide) q266 (fun _ h9 => h9) h dX1_post_21 (fun r_7 h => ?_)
    refine lv_iload_n hx hb dX1_post_24 rfl (lv_at hl 1 rfl) ?_
    obtain ⟨b_8, rfl, h9⟩ := h
    have h := h9
    clear h9
    refine hx_aI C0 hU hH h dX1_post_25 (fun i_9 h => ?_)
    refine lv_iload_n hx hb dX1_post_26 rfl (lv_at hl 2 rfl) ?_
    refine lv_iload_n hx hb dX1_post_27 rfl (lv_at hl 3 rfl) ?_
    refine lv_iload hx hb dX1_post_28 (lv_at hl 4 rfl) ?_
    refine hx_aload C0 dX1_post_30 (lv_at hl 5 rfl) ?_
    refine hx_INv C0 hU hH (As := [.int i_9, .int x2, .int x3, .int x4, va_rf (some a5)]) (wk_X5_init l h) ⟨va_cnB 5 hts (lw_meth q650) rfl rfl rfl (hU.2.2.1 _ q648 rfl) (hts _ q81) (by decide +kernel) ⟨Nat.le_of_ble_eq_true rfl, Nat.le_of_ble_eq_true rfl⟩, rfl, hts _ q649⟩ rfl hl.1 rfl (by cases r_5 <;> exact Nat.le_of_ble_eq_true rfl) dX1_post_32 ⟨Nat.le_of_ble_eq_true rfl, Nat.le_of_ble_eq_true rfl⟩ (fun w H locs hH h => ?_)
    obtain ⟨b_10, rfl, h9⟩ := h
    have h := h9
    clear h9
    obtain ⟨ho, h⟩ := h
    refine hx_Vi C0 hU hH (As := [va_rf (some b_6)]) (wk_J2_add l h) (cwV 1 hts (lw_V q154 q155 q156 q63 q157) rfl rfl rfl (by decide +kernel) ⟨Nat.le_of_ble_eq_true rfl, Nat.le_of_ble_eq_true rfl⟩) (hx_recv hU hH (ci := 7) rfl ho) rfl hl.1 rfl (Nat.le_of_ble_eq_true rfl) dX1_post_35 ⟨Nat.le_of_ble_eq_true rfl, Nat.le_of_ble_eq_true rfl⟩ (fun i_11 w H locs hH h => ?_)
    refine lv_pop hx hb dX1_post_38 rfl ?_
    exact hx_retv C0 hH hr hlocks h (Nat.le_of_ble_eq_true rfl) (Nat.le_of_ble_eq_true rfl) dX1_post_39
def wp_X1_sendData (w : Hp) (a0 : Nat) (x1 : Int32) (x2 : Int32) (x3 : Int32) (x4 : Int32) (x5 : Int32) (K : Hp → Prop) : Prop :=
  gR w a0 0 6 fun r_1 => dR r_1 fun b_2 => aR w b_2 x1 fun r_3 => dR r_3 fun b_4 => aR w b_4 x2 fun r_5 => dR r_5 fun b_6 => gR w b_6 2 2 fun r_7 => dR r_7 fun b_8 => gI w b_8 6 3 fun i_9 => nI_ w (6 : Int32) 6 fun w b_10 => sI w b_10 (0 : Int32) (4 : Int32) fun w => gI w b_8 6 1 fun i_11 => sI w b_10 (1 : Int32) i_11 fun w => gI w b_8 6 7 fun i_12 => sI w b_10 (2 : Int32) i_12 fun w => sI w b_10 (3 : Int32) x3 fun w => sI w b_10 (4 : Int32) x4 fun w => sI w b_10 (5 : Int32) x5 fun w => wp_X1_sealOf w i_9 b_10 fun w i_13 => gI w b_6 2 0 fun i_14 => gI w b_8 6 3 fun i_15 => nI_ w (6 : Int32) 6 fun w b_16 => gI w b_8 6 1 fun i_17 => sI w b_16 (0 : Int32) i_17 fun w => gI w b_8 6 7 fun i_18 => sI w b_16 (1 : Int32) i_18 fun w => sI w b_16 (2 : Int32) x3 fun w => sI w b_16 (3 : Int32) x4 fun w => sI w b_16 (4 : Int32) x5 fun w => sI w b_16 (5 : Int32) i_13 fun w => isO w a0 0 <| wp_X1_post w a0 x1 i_14 (4 : Int32) i_15 b_16 fun w => gI w b_8 6 7 fun i_19 => pV w b_8 6 7 (.int (i_19 + (1 : Int32))) fun w => K w
abbrev rm_X1_sendData : Room := { frames := 9, cells := 5, slots := 281, locals := 293 }
abbrev ws9_X1_sendData : List Cond := ws_ yX1_sendData cX1_sendData 9 none
abbrev Q9_X1_sendData (below : List Frame) (args : Array Value) (s : State) (G : hG) (K : Hp → Prop) : State → Prop := MQ below (hx_Qv G K) args s 5 281 (hx_A G)
set_option maxHeartbeats 4000000 in
set_option maxRecDepth 100000 in
theorem wk_X1_sendData (l : Launch) {G : hG} {w : Hp} {a0 : Nat} {x1 : Int32} {x2 : Int32} {x3 : Int32} {x4 : Int32} {x5 : Int32} {K : Hp → Prop} (h : wp_X1_sendData w a0 x1 x2 x3 x4 x5 K) : hx_Mv l yX1_sendData (ws9_X1_sendData) rm_X1_sendData G w [.ref a0, .int x1, .int x2, .int x3, .int x4, .int x5] K 5 281 := by
  refine Met.ofW (cc := cX1_sendData) (maxL := 9) (ret := none) (by decide +kernel) rfl ?_
  intro p e s m args below meth c s₁ B hml hv
  refine hx_in (own := RX1) (av := [.ref a0, .int x1, .int x2, .int x3, .int x4, .int x5]) (vl := [(0, va_rf (some a0)), (1, .int x1), (2, .int x2), (3, .int x3), (4, .int x4), (5, .int x5)]) rfl rfl (Nat.le_of_ble_eq_true rfl) rfl B hml hv ?_
  intro C0 hU hH hr hlocks hin ls hl
  have hx := C0.1
  have hb := C0.2.1
  have hts := C0.2.2.2.2
  refine hx_aload_n C0 dX1_sendData_0 rfl (lv_at hl 0 rfl) ?_
  refine hx_gR C0 hU hH (ci := 0) rfl in_X1 6 (by decide) q269 (fun _ h9 => h9) h dX1_sendData_1 (fun r_1 h => ?_)
  refine lv_iload_n hx hb dX1_sendData_4 rfl (lv_at hl 1 rfl) ?_
  obtain ⟨b_2, rfl, h9⟩ := h
  have h := h9
  clear h9
  refine hx_aR C0 hU hH h dX1_sendData_5 (fun r_3 h => ?_)
  refine lv_iload_n hx hb dX1_sendData_6 rfl (lv_at hl 2 rfl) ?_
  obtain ⟨b_4, rfl, h9⟩ := h
  have h := h9
  clear h9
  refine hx_aR C0 hU hH h dX1_sendData_7 (fun r_5 h => ?_)
  refine hx_astore C0 dX1_sendData_8 hl (by decide) (lv' := [(6, va_rf r_5), (0, va_rf (some a0)), (1, .int x1), (2, .int x2), (3, .int x3), (4, .int x4), (5, .int x5)]) rfl (fun ls hl => ?_)
  refine hx_aload C0 dX1_sendData_10 (lv_at hl 0 rfl) ?_
  obtain ⟨b_6, rfl, h9⟩ := h
  have h := h9
  clear h9
  refine hx_gRN C0 hU hH (ci := 2) rfl in_X3 2 (by decide) q228 (fun _ h9 => h9) h dX1_sendData_12 (fun r_7 h => ?_)
  refine hx_astore C0 dX1_sendData_15 hl (by decide) (lv' := [(7, va_rf r_7), (6, va_rf (some b_6)), (0, va_rf (some a0)), (1, .int x1), (2, .int x2), (3, .int x3), (4, .int x4), (5, .int x5)]) rfl (fun ls hl => ?_)
  refine hx_aload C0 dX1_sendData_17 (lv_at hl 0 rfl) ?_
  obtain ⟨b_8, rfl, h9⟩ := h
  have h := h9
  clear h9
  refine hx_gIN C0 hU hH (ci := 6) rfl in_X7 3 (by decide) q809 (fun _ h9 => h9) h dX1_sendData_19 (fun i_9 h => ?_)
  refine lv_bipush (v := 6) hx hb dX1_sendData_22 (by decide) ?_
  refine hx_nI C0 hU hH (Nat.le_of_ble_eq_true rfl) (Nat.le_of_ble_eq_true rfl) (Nat.le_of_ble_eq_true rfl) h dX1_sendData_24 (fun b_10 w H locs hH h => ?_)
  refine lv_dup hx hb dX1_sendData_26 rfl ?_
  refine lv_iconst (v := 0) hx hb dX1_sendData_27 (by decide) ?_
  refine lv_iconst (v := 4) hx hb dX1_sendData_28 (by decide) ?_
  refine hx_sI C0 hU hH h dX1_sendData_29 (fun w H locs hH h => ?_)
  refine lv_dup hx hb dX1_sendData_30 rfl ?_
  refine lv_iconst (v := 1) hx hb dX1_sendData_31 (by decide) ?_
  refine hx_aload C0 dX1_sendData_32 (lv_at hl 0 rfl) ?_
  refine hx_gIN C0 hU hH (ci := 6) rfl in_X7 1 (by decide) q805 (fun _ h9 => h9) h dX1_sendData_34 (fun i_11 h => ?_)
  refine hx_sI C0 hU hH h dX1_sendData_37 (fun w H locs hH h => ?_)
  refine lv_dup hx hb dX1_sendData_38 rfl ?_
  refine lv_iconst (v := 2) hx hb dX1_sendData_39 (by decide) ?_
  refine hx_aload C0 dX1_sendData_40 (lv_at hl 0 rfl) ?_
  refine hx_gIN C0 hU hH (ci := 6) rfl in_X7 7 (by decide) q816 (fun _ h9 => h9) h dX1_sendData_42 (fun i_12 h => ?_)
  refine hx_sI C0 hU hH h dX1_sendData_45 (fun w H locs hH h => ?_)
  refine lv_dup hx hb dX1_sendData_46 rfl ?_
  refine lv_iconst (v := 3) hx hb dX1_sendData_47 (by decide) ?_
  refine lv_iload_n hx hb dX1_sendData_48 rfl (lv_at hl 5 rfl) ?_
  refine hx_sI C0 hU hH h dX1_sendData_49 (fun w H locs hH h => ?_)
  refine lv_dup hx hb dX1_sendData_50 rfl ?_
  refine lv_iconst (v := 4) hx hb dX1_sendData_51 (by decide) ?_
  refine lv_iload hx hb dX1_sendData_52 (lv_at hl 6 rfl) ?_
  refine hx_sI C0 hU hH h dX1_sendData_54 (fun w H locs hH h => ?_)
  refine lv_dup hx hb dX1_sendData_55 rfl ?_
  refine lv_iconst (v := 5) hx hb dX1_sendData_56 (by decide) ?_
  refine lv_iload hx hb dX1_sendData_57 (lv_at hl 7 rfl) ?_
  refine hx_sI C0 hU hH h dX1_sendData_59 (fun w H locs hH h => ?_)
  refine hx_Si C0 hU hH (As := [.int i_9, va_rf (some b_10)]) (wk_X1_sealOf l h) (va_cwS 2 hts (lw_S q643 q455 q60 q456) rfl rfl rfl (by decide +kernel) ⟨Nat.le_of_ble_eq_true rfl, Nat.le_of_ble_eq_true rfl⟩) rfl hl.1 rfl (Nat.le_of_ble_eq_true rfl) dX1_sendData_60 ⟨Nat.le_of_ble_eq_true rfl, Nat.le_of_ble_eq_true rfl⟩ (fun i_13 w H locs hH h => ?_)
  refine lv_istore hx hb dX1_sendData_63 hl (by decide) (lv' := [(8, .int i_13), (7, va_rf (some b_8)), (6, va_rf (some b_6)), (0, va_rf (some a0)), (1, .int x1), (2, .int x2), (3, .int x3), (4, .int x4), (5, .int x5)]) rfl (fun ls hl => ?_)
  refine hx_aload_n C0 dX1_sendData_65 rfl (lv_at hl 3 rfl) ?_
  refine lv_iload_n hx hb dX1_sendData_66 rfl (lv_at hl 4 rfl) ?_
  refine hx_aload C0 dX1_sendData_67 (lv_at hl 2 rfl) ?_
  refine hx_gIN C0 hU hH (ci := 2) rfl in_X3 0 (by decide) q224 (fun _ h9 => h9) h dX1_sendData_69 (fun i_14 h => ?_)
  refine lv_iconst (v := 4) hx hb dX1_sendData_72 (by decide) ?_
  refine hx_aload C0 dX1_sendData_73 (lv_at hl 1 rfl) ?_
  refine hx_gIN C0 hU hH (ci := 6) rfl in_X7 3 (by decide) q809 (fun _ h9 => h9) h dX1_sendData_75 (fun i_15 h => ?_)
  refine lv_bipush (v := 6) hx hb dX1_sendData_78 (by decide) ?_
  refine hx_nI C0 hU hH (Nat.le_of_ble_eq_true rfl) (Nat.le_of_ble_eq_true rfl) (Nat.le_of_ble_eq_true rfl) h dX1_sendData_80 (fun b_16 w H locs hH h => ?_)
  refine lv_dup hx hb dX1_sendData_82 rfl ?_
  refine lv_iconst (v := 0) hx hb dX1_sendData_83 (by decide) ?_
  refine hx_aload C0 dX1_sendData_84 (lv_at hl 1 rfl) ?_
  refine hx_gIN C0 hU hH (ci := 6) rfl in_X7 1 (by decide) q805 (fun _ h9 => h9) h dX1_sendData_86 (fun i_17 h => ?_)
  refine hx_sI C0 hU hH h dX1_sendData_89 (fun w H locs hH h => ?_)
  refine lv_dup hx hb dX1_sendData_90 rfl ?_
  refine lv_iconst (v := 1) hx hb dX1_sendData_91 (by decide) ?_
  refine hx_aload C0 dX1_sendData_92 (lv_at hl 1 rfl) ?_
  refine hx_gIN C0 hU hH (ci := 6) rfl in_X7 7 (by decide) q816 (fun _ h9 => h9) h dX1_sendData_94 (fun i_18 h => ?_)
  refine hx_sI C0 hU hH h dX1_sendData_97 (fun w H locs hH h => ?_)
  refine lv_dup hx hb dX1_sendData_98 rfl ?_
  refine lv_iconst (v := 2) hx hb dX1_sendData_99 (by decide) ?_
  refine lv_iload_n hx hb dX1_sendData_100 rfl (lv_at hl 6 rfl) ?_
  refine hx_sI C0 hU hH h dX1_sendData_101 (fun w H locs hH h => ?_)
  refine lv_dup hx hb dX1_sendData_102 rfl ?_
  refine lv_iconst (v := 3) hx hb dX1_sendData_103 (by decide) ?_
  refine lv_iload hx hb dX1_sendData_104 (lv_at hl 7 rfl) ?_
  refine hx_sI C0 hU hH h dX1_sendData_106 (fun w H locs hH h => ?_)
  refine lv_dup hx hb dX1_sendData_107 rfl ?_
  refine lv_iconst (v := 4) hx hb dX1_sendData_108 (by decide) ?_
  refine lv_iload hx hb dX1_sendData_109 (lv_at hl 8 rfl) ?_
  refine hx_sI C0 hU hH h dX1_sendData_111 (fun w H locs hH h => ?_)
  refine lv_dup hx hb dX1_sendData_112 rfl ?_
  refine lv_iconst (v := 5) hx hb dX1_sendData_113 (by decide) ?_
  refine lv_iload hx hb dX1_sendData_114 (lv_at hl 0 rfl) ?_
  refine hx_sI C0 hU hH h dX1_sendData_116 (fun w H locs hH h => ?_)
  obtain ⟨ho, h⟩ := h
  refine hx_Vv C0 hU hH (As := [.int x1, .int i_14, .int (4 : Int32), .int i_15, va_rf (some b_16)]) (wk_X1_post l h) (cwV 5 hts (lw_V q644 q646 qs14 q60 q647) rfl rfl rfl (by decide +kernel) ⟨Nat.le_of_ble_eq_true rfl, Nat.le_of_ble_eq_true rfl⟩) (hx_recv hU hH (ci := 0) rfl ho) rfl hl.1 rfl (Nat.le_of_ble_eq_true rfl) dX1_sendData_117 ⟨Nat.le_of_ble_eq_true rfl, Nat.le_of_ble_eq_true rfl⟩ (fun w H locs hH h => ?_)
  refine hx_aload C0 dX1_sendData_120 (lv_at hl 1 rfl) ?_
  refine lv_dup hx hb dX1_sendData_122 rfl ?_
  refine hx_gIN C0 hU hH (ci := 6) rfl in_X7 7 (by decide) q816 (fun _ h9 => h9) h dX1_sendData_123 (fun i_19 h => ?_)
  refine lv_iconst (v := 1) hx hb dX1_sendData_126 (by decide) ?_
  refine lv_iadd hx hb dX1_sendData_127 ?_
  refine hx_pVN C0 hU hH (ci := 6) rfl in_X7 tyX7 tyX7_ok nmX7 7 (by decide) q816 (fun _ h9 => h9) rfl rfl rfl h dX1_sendData_128 (fun w H locs hH h => ?_)
  exact hx_retv C0 hH hr hlocks h (Nat.le_of_ble_eq_true rfl) (Nat.le_of_ble_eq_true rfl) dX1_sendData_131
def wp_X1_hasCookie (w : Hp) (a0 : Nat) (a1 : Nat) (K : Hp → Int32 → Prop) : Prop :=
  gI w a1 2 7 fun i_1 => br (i_1 = (-1 : Int32)) (K w (0 : Int32)) (gI w a0 0 0 fun i_3 => gI w a1 2 8 fun i_4 => br ((60 : Int32) ≤ (i_3 - i_4)) (K w (0 : Int32)) (K w (1 : Int32)))
abbrev rm_X1_hasCookie : Room := { frames := 0, cells := 0, slots := 0, locals := 0 }
abbrev ws9_X1_hasCookie : List Cond := ws_ yX1_hasCookie cX1_hasCookie 2 (Option.some Jvm.ClassFile.FieldType.boolean)
abbrev Q9_X1_hasCookie (below : List Frame) (args : Array Value) (s : State) (G : hG) (K : Hp → Int32 → Prop) : State → Prop := MQ below (hx_Qi G K) args s 0 0 (hx_A G)
set_option maxHeartbeats 4000000 in
set_option maxRecDepth 100000 in
theorem wk_X1_hasCookie (l : Launch) {G : hG} {w : Hp} {a0 : Nat} {a1 : Nat} {K : Hp → Int32 → Prop} (h : wp_X1_hasCookie w a0 a1 K) : hx_Mi l yX1_hasCookie (ws9_X1_hasCookie) rm_X1_hasCookie G w [.ref a0, .ref a1] K 0 0 := by
  refine Met.ofW (cc := cX1_hasCookie) (maxL := 2) (ret := (Option.some Jvm.ClassFile.FieldType.boolean)) (by decide +kernel) rfl ?_
  intro p e s m args below meth c s₁ B hml hv
  refine hx_in (own := RX1) (av := [.ref a0, .ref a1]) (vl := [(0, va_rf (some a0)), (1, va_rf (some a1))]) rfl rfl (Nat.le_of_ble_eq_true rfl) rfl B hml hv ?_
  intro C0 hU hH hr hlocks hin ls hl
  have hx := C0.1
  have hb := C0.2.1
  have hts := C0.2.2.2.2
  refine hx_aload_n C0 dX1_hasCookie_0 rfl (lv_at hl 1 rfl) ?_
  refine hx_gIN C0 hU hH (ci := 2) rfl in_X3 7 (by decide) q235 (fun _ h9 => h9) h dX1_hasCookie_1 (fun i_1 h => ?_)
  refine lv_iconst (v := -1) hx hb dX1_hasCookie_4 (by decide) ?_
  refine lv_icmp_eq hx hb dX1_hasCookie_5 (tgt := 26) (by decide) (fun c_2 => ?_) (fun c_2 => ?_)
  · have h := h.1 c_2
    refine lv_iconst (v := 0) hx hb dX1_hasCookie_26 (by decide) ?_
    exact hx_retz C0 hH hr hlocks (Or.inl rfl) h (Nat.le_of_ble_eq_true rfl) (Nat.le_of_ble_eq_true rfl) dX1_hasCookie_27
  · have h := h.2 c_2
    refine hx_aload_n C0 dX1_hasCookie_8 rfl (lv_at hl 0 rfl) ?_
    refine hx_gI C0 hU hH (ci := 0) rfl in_X1 0 (by decide) q263 (fun _ h9 => h9) h dX1_hasCookie_9 (fun i_3 h => ?_)
    refine hx_aload_n C0 dX1_hasCookie_12 rfl (lv_at hl 1 rfl) ?_
    refine hx_gIN C0 hU hH (ci := 2) rfl in_X3 8 (by decide) q236 (fun _ h9 => h9) h dX1_hasCookie_13 (fun i_4 h => ?_)
    refine lv_isub hx hb dX1_hasCookie_16 ?_
    refine lv_bipush (v := 60) hx hb dX1_hasCookie_17 (by decide) ?_
    refine lv_icmp_ge hx hb dX1_hasCookie_19 (tgt := 26) (by decide) (fun c_5 => ?_) (fun c_5 => ?_)
    · have h := h.1 c_5
      refine lv_iconst (v := 0) hx hb dX1_hasCookie_26 (by decide) ?_
      exact hx_retz C0 hH hr hlocks (Or.inl rfl) h (Nat.le_of_ble_eq_true rfl) (Nat.le_of_ble_eq_true rfl) dX1_hasCookie_27
    · have h := h.2 c_5
      refine lv_iconst (v := 1) hx hb dX1_hasCookie_22 (by decide) ?_
      refine lv_goto hx hb dX1_hasCookie_23 (tgt := 27) (by decide) ?_
      exact hx_retz C0 hH hr hlocks (Or.inr rfl) h (Nat.le_of_ble_eq_true rfl) (Nat.le_of_ble_eq_true rfl) dX1_hasCookie_27
def wp_X1_sendHello_b170 (K : Hp → Prop)  (w : Hp) (a0 : Nat) (x1 : Int32) (a3 : Nat) (x4 : Int32) (x5 : Int32) (x6 : Int32) (x7 : Int32) (x8 : Int32) (x9 : Int32) (t0 : Int32) : Prop :=
  gI w a3 2 0 fun i_1 => nI_ w (6 : Int32) 6 fun w b_2 => gI w a0 0 1 fun i_3 => sI w b_2 (0 : Int32) i_3 fun w => sI w b_2 (1 : Int32) x5 fun w => sI w b_2 (2 : Int32) x6 fun w => sI w b_2 (3 : Int32) x7 fun w => sI w b_2 (4 : Int32) x9 fun w => sI w b_2 (5 : Int32) t0 fun w => isO w a0 0 <| wp_X1_post w a0 x1 i_1 (1 : Int32) x8 b_2 fun w => pV w a3 2 6 (.int x7) fun w => nO w 5 fsX6 fun w b_4 => gI w a0 0 1 fun i_5 => gI w a0 0 0 fun i_6 => wp_X6_init w b_4 i_5 x4 x8 x9 i_6 fun w => pV w a3 2 4 (va_rf (some b_4)) fun w => K w
def wp_X1_sendHello (w : Hp) (a0 : Nat) (x1 : Int32) (x2 : Int32) (K : Hp → Prop) : Prop :=
  gR w a0 0 6 fun r_1 => dR r_1 fun b_2 => aR w b_2 x1 fun r_3 => dR r_3 fun b_4 => aR w b_4 x2 fun r_5 => gI w a0 0 1 fun i_6 => pV w a0 0 1 (.int (i_6 + (1 : Int32))) fun w => gI w a0 0 1 fun i_7 => wp_X1_drawn w i_7 fun w i_8 => wp_X1_power w (7 : Int32) i_8 fun w i_9 => nm (((10 : Int32) * x1) + x2) fun i_10 => gI w a0 0 0 fun i_11 => dR r_5 fun b_12 => gI w b_12 2 6 fun i_13 => wp_J4_max w ((4 : Int32) * i_11) (i_13 + (1 : Int32)) fun w i_14 => nI_ w (3 : Int32) 3 fun w b_15 => sI w b_15 (0 : Int32) (1 : Int32) fun w => wp_X1_publicNumber w x2 fun w i_16 => wp_X1_power w i_16 i_8 fun w i_17 => sI w b_15 (1 : Int32) i_17 fun w => wp_X1_publicNumber w x2 fun w i_18 => wp_X1_secretOf w x1 fun w i_19 => wp_X1_power w i_18 i_19 fun w i_20 => sI w b_15 (2 : Int32) i_20 fun w => wp_X1_mix w b_15 fun w i_21 => nI_ w (5 : Int32) 5 fun w b_22 => sI w b_22 (0 : Int32) (1 : Int32) fun w => gI w a0 0 1 fun i_23 => sI w b_22 (1 : Int32) i_23 fun w => sI w b_22 (2 : Int32) i_9 fun w => sI w b_22 (3 : Int32) i_10 fun w => sI w b_22 (4 : Int32) i_14 fun w => wp_X1_sealOf w i_21 b_22 fun w i_24 => isO w a0 0 <| wp_X1_hasCookie w a0 b_12 fun w i_25 => br (i_25 = 0) (wp_X1_sendHello_b170 K w a0 x1 b_12 i_8 i_9 i_10 i_14 i_21 i_24 (0 : Int32)) (nI_ w (3 : Int32) 3 fun w b_27 => sI w b_27 (0 : Int32) (2 : Int32) fun w => gI w b_12 2 7 fun i_28 => sI w b_27 (1 : Int32) i_28 fun w => sI w b_27 (2 : Int32) i_24 fun w => wp_X1_mix w b_27 fun w i_29 => wp_X1_sendHello_b170 K w a0 x1 b_12 i_8 i_9 i_10 i_14 i_21 i_24 i_29)
abbrev rm_X1_sendHello : Room := { frames := 9, cells := 8, slots := 291, locals := 293 }
abbrev ws9_X1_sendHello : List Cond := ws_ yX1_sendHello cX1_sendHello 11 none
abbrev Q9_X1_sendHello (below : List Frame) (args : Array Value) (s : State) (G : hG) (K : Hp → Prop) : State → Prop := MQ below (hx_Qv G K) args s 8 291 (hx_A G)
set_option maxHeartbeats 4000000 in
set_option maxRecDepth 100000 in
theorem wk_X1_sendHello (l : Launch) {G : hG} {w : Hp} {a0 : Nat} {x1 : Int32} {x2 : Int32} {K : Hp → Prop} (h : wp_X1_sendHello w a0 x1 x2 K) : hx_Mv l yX1_sendHello (ws9_X1_sendHello) rm_X1_sendHello G w [.ref a0, .int x1, .int x2] K 8 291 := by
  refine Met.ofW (cc := cX1_sendHello) (maxL := 11) (ret := none) (by decide +kernel) rfl ?_
  intro p e s m args below meth c s₁ B hml hv
  refine hx_in (own := RX1) (av := [.ref a0, .int x1, .int x2]) (vl := [(0, va_rf (some a0)), (1, .int x1), (2, .int x2)]) rfl rfl (Nat.le_of_ble_eq_true rfl) rfl B hml hv ?_
  intro C0 hU hH hr hlocks hin ls hl
  have hx := C0.1
  have hb := C0.2.1
  have hts := C0.2.2.2.2
  have b170 : ∀ (w : Hp) (a0 : Nat) (x1 : Int32) (a3 : Nat) (x4 : Int32) (x5 : Int32) (x6 : Int32) (x7 : Int32) (x8 : Int32) (x9 : Int32) (t0 : Int32), wp_X1_sendHello_b170 K  w a0 x1 a3 x4 x5 x6 x7 x8 x9 t0 → ∀ (H : Heap) (locs : List Loc) (ls : Array Slot), hx_H G w s H locs → lv_has ls 11 [(0, va_rf (some a0)), (1, .int x1), (3, va_rf (some a3)), (4, .int x4), (5, .int x5), (6, .int x6), (7, .int x7), (8, .int x8), (9, .int x9)] → W p l e (headSpec (ws9_X1_sendHello) rm_X1_sendHello).room s m args below meth c H locs (3) (11) (Q9_X1_sendHello below args s G K) (F0 m 170 ls [.int t0]) := by
    intro w a0 x1 a3 x4 x5 x6 x7 x8 x9 t0 h H locs ls hH hl
    refine lv_istore hx hb dX1_sendHello_170 hl (by decide) (lv' := [(10, .int t0), (0, va_rf (some a0)), (1, .int x1), (3, va_rf (some a3)), (4, .int x4), (5, .int x5), (6, .int x6), (7, .int x7), (8, .int x8), (9, .int x9)]) rfl (fun ls hl => ?_)
    refine hx_aload_n C0 dX1_sendHello_172 rfl (lv_at hl 1 rfl) ?_
    refine lv_iload_n hx hb dX1_sendHello_173 rfl (lv_at hl 2 rfl) ?_
    refine hx_aload_n C0 dX1_sendHello_174 rfl (lv_at hl 3 rfl) ?_
    refine hx_gIN C0 hU hH (ci := 2) rfl in_X3 0 (by decide) q224 (fun _ h9 => h9) h dX1_sendHello_175 (fun i_1 h => ?_)
    refine lv_iconst (v := 1) hx hb dX1_sendHello_178 (by decide) ?_
    refine lv_iload hx hb dX1_sendHello_179 (lv_at hl 8 rfl) ?_
    refine lv_bipush (v := 6) hx hb dX1_sendHello_181 (by decide) ?_
    refine hx_nI C0 hU hH (Nat.le_of_ble_eq_true rfl) (Nat.le_of_ble_eq_true rfl) (Nat.le_of_ble_eq_true rfl) h dX1_sendHello_183 (fun b_2 w H locs hH h => ?_)
    refine lv_dup hx hb dX1_sendHello_185 rfl ?_
    refine lv_iconst (v := 0) hx hb dX1_sendHello_186 (by decide) ?_
    refine hx_aload_n C0 dX1_sendHello_187 rfl (lv_at hl 1 rfl) ?_
    refine hx_gI C0 hU hH (ci := 0) rfl in_X1 1 (by decide) q264 (fun _ h9 => h9) h dX1_sendHello_188 (fun i_3 h => ?_)
    refine hx_sI C0 hU hH h dX1_sendHello_191 (fun w H locs hH h => ?_)
    refine lv_dup hx hb dX1_sendHello_192 rfl ?_
    refine lv_iconst (v := 1) hx hb dX1_sendHello_193 (by decide) ?_
    refine lv_iload hx hb dX1_sendHello_194 (lv_at hl 5 rfl) ?_
    refine hx_sI C0 hU hH h dX1_sendHello_196 (fun w H locs hH h => ?_)
    refine lv_dup hx hb dX1_sendHello_197 rfl ?_
    refine lv_iconst (v := 2) hx hb dX1_sendHello_198 (by decide) ?_
    refine lv_iload hx hb dX1_sendHello_199 (lv_at hl 6 rfl) ?_
    refine hx_sI C0 hU hH h dX1_sendHello_201 (fun w H locs hH h => ?_)
    refine lv_dup hx hb dX1_sendHello_202 rfl ?_
    refine lv_iconst (v := 3) hx hb dX1_sendHello_203 (by decide) ?_
    refine lv_iload hx hb dX1_sendHello_204 (lv_at hl 7 rfl) ?_
    refine hx_sI C0 hU hH h dX1_sendHello_206 (fun w H locs hH h => ?_)
    refine lv_dup hx hb dX1_sendHello_207 rfl ?_
    refine lv_iconst (v := 4) hx hb dX1_sendHello_208 (by decide) ?_
    refine lv_iload hx hb dX1_sendHello_209 (lv_at hl 9 rfl) ?_
    refine hx_sI C0 hU hH h dX1_sendHello_211 (fun w H locs hH h => ?_)
    refine lv_dup hx hb dX1_sendHello_212 rfl ?_
    refine lv_iconst (v := 5) hx hb dX1_sendHello_213 (by decide) ?_
    refine lv_iload hx hb dX1_sendHello_214 (lv_at hl 0 rfl) ?_
    refine hx_sI C0 hU hH h dX1_sendHello_216 (fun w H locs hH h => ?_)
    obtain ⟨ho, h⟩ := h
    refine hx_Vv C0 hU hH (As := [.int x1, .int i_1, .int (1 : Int32), .int x8, va_rf (some b_2)]) (wk_X1_post l h) (cwV 5 hts (lw_V q644 q646 qs14 q60 q647) rfl rfl rfl (by decide +kernel) ⟨Nat.le_of_ble_eq_true rfl, Nat.le_of_ble_eq_true rfl⟩) (hx_recv hU hH (ci := 0) rfl ho) rfl hl.1 rfl (Nat.le_of_ble_eq_true rfl) dX1_sendHello_217 ⟨Nat.le_of_ble_eq_true rfl, Nat.le_of_ble_eq_true rfl⟩ (fun w H locs hH h => ?_)
    refine hx_aload_n C0 dX1_sendHello_220 rfl (lv_at hl 3 rfl) ?_
    refine lv_iload hx hb dX1_sendHello_221 (lv_at hl 7 rfl) ?_
    refine hx_pVN C0 hU hH (ci := 2) rfl in_X3 tyX3 tyX3_ok nmX3 6 (by decide) q233 (fun _ h9 => h9) rfl rfl rfl h dX1_sendHello_223 (fun w H locs hH h => ?_)
    refine hx_aload_n C0 dX1_sendHello_226 rfl (lv_at hl 3 rfl) ?_
    refine hx_new C0 hU hH (ci := 5) rfl in_X6 tyX6 tyX6_ok q711 q712 q82 nfX6 (Nat.le_of_ble_eq_true rfl) (Nat.le_of_ble_eq_true rfl) h dX1_sendHello_227 (fun b_4 w H locs hH h => ?_)
    refine lv_dup hx hb dX1_sendHello_230 rfl ?_
    refine hx_aload_n C0 dX1_sendHello_231 rfl (lv_at hl 1 rfl) ?_
    refine hx_gI C0 hU hH (ci := 0) rfl in_X1 1 (by decide) q264 (fun _ h9 => h9) h dX1_sendHello_232 (fun i_5 h => ?_)
    refine lv_iload hx hb dX1_sendHello_235 (lv_at hl 4 rfl) ?_
    refine lv_iload hx hb dX1_sendHello_237 (lv_at hl 8 rfl) ?_
    refine lv_iload hx hb dX1_sendHello_239 (lv_at hl 9 rfl) ?_
    refine hx_aload_n C0 dX1_sendHello_241 rfl (lv_at hl 1 rfl) ?_
    refine hx_gI C0 hU hH (ci := 0) rfl in_X1 0 (by decide) q263 (fun _ h9 => h9) h dX1_sendHello_242 (fun i_6 h => ?_)
    refine hx_INv C0 hU hH (As := [.int i_5, .int x4, .int x8, .int x9, .int i_6]) (wk_X6_init l h) ⟨va_cnB 5 hts (lw_meth q715) rfl rfl rfl (hU.2.2.1 _ q713 rfl) (hts _ q82) (by decide +kernel) ⟨Nat.le_of_ble_eq_true rfl, Nat.le_of_ble_eq_true rfl⟩, rfl, hts _ q714⟩ rfl hl.1 rfl (Nat.le_of_ble_eq_true rfl) dX1_sendHello_245 ⟨Nat.le_of_ble_eq_true rfl, Nat.le_of_ble_eq_true rfl⟩ (fun w H locs hH h => ?_)
    refine hx_pVN C0 hU hH (ci := 2) rfl in_X3 tyX3 tyX3_ok nmX3 4 (by decide) q231 (fun _ h9 => h9) rfl (hx_fo _ _).1 (hx_fo _ _).2 h dX1_sendHello_248 (fun w H locs hH h => ?_)
    exact hx_retv C0 hH hr hlocks h (Nat.le_of_ble_eq_true rfl) (Nat.le_of_ble_eq_true rfl) dX1_sendHello_251
  refine hx_aload_n C0 dX1_sendHello_0 rfl (lv_at hl 0 rfl) ?_
  refine hx_gR C0 hU hH (ci := 0) rfl in_X1 6 (by decide) q269 (fun _ h9 => h9) h dX1_sendHello_1 (fun r_1 h => ?_)
  refine lv_iload_n hx hb dX1_sendHello_4 rfl (lv_at hl 1 rfl) ?_
  obtain ⟨b_2, rfl, h9⟩ := h
  have h := h9
  clear h9
  refine hx_aR C0 hU hH h dX1_sendHello_5 (fun r_3 h => ?_)
  refine lv_iload_n hx hb dX1_sendHello_6 rfl (lv_at hl 2 rfl) ?_
  obtain ⟨b_4, rfl, h9⟩ := h
  have h := h9
  clear h9
  refine hx_aR C0 hU hH h dX1_sendHello_7 (fun r_5 h => ?_)
  refine hx_astore_n C0 dX1_sendHello_8 rfl hl (by decide) (lv' := [(3, va_rf r_5), (0, va_rf (some a0)), (1, .int x1), (2, .int x2)]) rfl (fun ls hl => ?_)
  refine hx_aload_n C0 dX1_sendHello_9 rfl (lv_at hl 1 rfl) ?_
  refine lv_dup hx hb dX1_sendHello_10 rfl ?_
  refine hx_gI C0 hU hH (ci := 0) rfl in_X1 1 (by decide) q264 (fun _ h9 => h9) h dX1_sendHello_11 (fun i_6 h => ?_)
  refine lv_iconst (v := 1) hx hb dX1_sendHello_14 (by decide) ?_
  refine lv_iadd hx hb dX1_sendHello_15 ?_
  refine hx_pV C0 hU hH (ci := 0) rfl in_X1 tyX1 tyX1_ok nmX1 1 (by decide) q264 (fun _ h9 => h9) (Or.inl rfl) rfl rfl h dX1_sendHello_16 (fun w H locs hH h => ?_)
  refine hx_aload_n C0 dX1_sendHello_19 rfl (lv_at hl 1 rfl) ?_
  refine hx_gI C0 hU hH (ci := 0) rfl in_X1 1 (by decide) q264 (fun _ h9 => h9) h dX1_sendHello_20 (fun i_7 h => ?_)
  refine hx_Si C0 hU hH (As := [.int i_7]) (wk_X1_drawn l h) (va_cwS 1 hts (lw_S q689 q690 q60 q691) rfl rfl rfl (by decide +kernel) ⟨Nat.le_of_ble_eq_true rfl, Nat.le_of_ble_eq_true rfl⟩) rfl hl.1 rfl (Nat.le_of_ble_eq_true rfl) dX1_sendHello_23 ⟨Nat.le_of_ble_eq_true rfl, Nat.le_of_ble_eq_true rfl⟩ (fun i_8 w H locs hH h => ?_)
  refine lv_istore hx hb dX1_sendHello_26 hl (by decide) (lv' := [(4, .int i_8), (3, va_rf r_5), (0, va_rf (some a0)), (1, .int x1), (2, .int x2)]) (by cases r_5 <;> rfl) (fun ls hl => ?_)
  refine lv_bipush (v := 7) hx hb dX1_sendHello_28 (by decide) ?_
  refine lv_iload hx hb dX1_sendHello_30 (lv_at hl 0 rfl) ?_
  refine hx_Si C0 hU hH (As := [.int (7 : Int32), .int i_8]) (wk_X1_power l h) (va_cwS 2 hts (lw_S q694 q695 q60 q696) rfl rfl rfl (by decide +kernel) ⟨Nat.le_of_ble_eq_true rfl, Nat.le_of_ble_eq_true rfl⟩) rfl hl.1 rfl (Nat.le_of_ble_eq_true rfl) dX1_sendHello_32 ⟨Nat.le_of_ble_eq_true rfl, Nat.le_of_ble_eq_true rfl⟩ (fun i_9 w H locs hH h => ?_)
  refine lv_istore hx hb dX1_sendHello_35 hl (by decide) (lv' := [(5, .int i_9), (4, .int i_8), (3, va_rf r_5), (0, va_rf (some a0)), (1, .int x1), (2, .int x2)]) rfl (fun ls hl => ?_)
  refine lv_bipush (v := 10) hx hb dX1_sendHello_37 (by decide) ?_
  refine lv_iload_n hx hb dX1_sendHello_39 rfl (lv_at hl 4 rfl) ?_
  refine lv_imul hx hb dX1_sendHello_40 ?_
  refine lv_iload_n hx hb dX1_sendHello_41 rfl (lv_at hl 5 rfl) ?_
  refine lv_iadd hx hb dX1_sendHello_42 ?_
  refine lv_topi (fun i_10 ei_10 => ?_)
  have h := h i_10 ei_10
  refine lv_istore hx hb dX1_sendHello_43 hl (by decide) (lv' := [(6, .int i_10), (5, .int i_9), (4, .int i_8), (3, va_rf r_5), (0, va_rf (some a0)), (1, .int x1), (2, .int x2)]) rfl (fun ls hl => ?_)
  refine lv_iconst (v := 4) hx hb dX1_sendHello_45 (by decide) ?_
  refine hx_aload_n C0 dX1_sendHello_46 rfl (lv_at hl 4 rfl) ?_
  refine hx_gI C0 hU hH (ci := 0) rfl in_X1 0 (by decide) q263 (fun _ h9 => h9) h dX1_sendHello_47 (fun i_11 h => ?_)
  refine lv_imul hx hb dX1_sendHello_50 ?_
  refine hx_aload_n C0 dX1_sendHello_51 rfl (lv_at hl 3 rfl) ?_
  obtain ⟨b_12, rfl, h9⟩ := h
  have h := h9
  clear h9
  refine hx_gIN C0 hU hH (ci := 2) rfl in_X3 6 (by decide) q233 (fun _ h9 => h9) h dX1_sendHello_52 (fun i_13 h => ?_)
  refine lv_iconst (v := 1) hx hb dX1_sendHello_55 (by decide) ?_
  refine lv_iadd hx hb dX1_sendHello_56 ?_
  refine hx_Si C0 hU hH (As := [.int ((4 : Int32) * i_11), .int (i_13 + (1 : Int32))]) (wk_J4_max l h) (va_cwS 2 hts (lw_S q697 q174 q66 q175) rfl rfl rfl (by decide +kernel) ⟨Nat.le_of_ble_eq_true rfl, Nat.le_of_ble_eq_true rfl⟩) rfl hl.1 rfl (Nat.le_of_ble_eq_true rfl) dX1_sendHello_57 ⟨Nat.le_of_ble_eq_true rfl, Nat.le_of_ble_eq_true rfl⟩ (fun i_14 w H locs hH h => ?_)
  refine lv_istore hx hb dX1_sendHello_60 hl (by decide) (lv' := [(7, .int i_14), (6, .int i_10), (5, .int i_9), (4, .int i_8), (3, va_rf (some b_12)), (0, va_rf (some a0)), (1, .int x1), (2, .int x2)]) rfl (fun ls hl => ?_)
  refine lv_iconst (v := 3) hx hb dX1_sendHello_62 (by decide) ?_
  refine hx_nI C0 hU hH (Nat.le_of_ble_eq_true rfl) (Nat.le_of_ble_eq_true rfl) (Nat.le_of_ble_eq_true rfl) h dX1_sendHello_63 (fun b_15 w H locs hH h => ?_)
  refine lv_dup hx hb dX1_sendHello_65 rfl ?_
  refine lv_iconst (v := 0) hx hb dX1_sendHello_66 (by decide) ?_
  refine lv_iconst (v := 1) hx hb dX1_sendHello_67 (by decide) ?_
  refine hx_sI C0 hU hH h dX1_sendHello_68 (fun w H locs hH h => ?_)
  refine lv_dup hx hb dX1_sendHello_69 rfl ?_
  refine lv_iconst (v := 1) hx hb dX1_sendHello_70 (by decide) ?_
  refine lv_iload_n hx hb dX1_sendHello_71 rfl (lv_at hl 7 rfl) ?_
  refine hx_Si C0 hU hH (As := [.int x2]) (wk_X1_publicNumber l h) (va_cwS 1 hts (lw_S q698 q699 q60 q700) rfl rfl rfl (by decide +kernel) ⟨Nat.le_of_ble_eq_true rfl, Nat.le_of_ble_eq_true rfl⟩) rfl hl.1 rfl (Nat.le_of_ble_eq_true rfl) dX1_sendHello_72 ⟨Nat.le_of_ble_eq_true rfl, Nat.le_of_ble_eq_true rfl⟩ (fun i_16 w H locs hH h => ?_)
  refine lv_iload hx hb dX1_sendHello_75 (lv_at hl 3 rfl) ?_
  refine hx_Si C0 hU hH (As := [.int i_16, .int i_8]) (wk_X1_power l h) (va_cwS 2 hts (lw_S q694 q695 q60 q696) rfl rfl rfl (by decide +kernel) ⟨Nat.le_of_ble_eq_true rfl, Nat.le_of_ble_eq_true rfl⟩) rfl hl.1 rfl (Nat.le_of_ble_eq_true rfl) dX1_sendHello_77 ⟨Nat.le_of_ble_eq_true rfl, Nat.le_of_ble_eq_true rfl⟩ (fun i_17 w H locs hH h => ?_)
  refine hx_sI C0 hU hH h dX1_sendHello_80 (fun w H locs hH h => ?_)
  refine lv_dup hx hb dX1_sendHello_81 rfl ?_
  refine lv_iconst (v := 2) hx hb dX1_sendHello_82 (by decide) ?_
  refine lv_iload_n hx hb dX1_sendHello_83 rfl (lv_at hl 7 rfl) ?_
  refine hx_Si C0 hU hH (As := [.int x2]) (wk_X1_publicNumber l h) (va_cwS 1 hts (lw_S q698 q699 q60 q700) rfl rfl rfl (by decide +kernel) ⟨Nat.le_of_ble_eq_true rfl, Nat.le_of_ble_eq_true rfl⟩) rfl hl.1 rfl (Nat.le_of_ble_eq_true rfl) dX1_sendHello_84 ⟨Nat.le_of_ble_eq_true rfl, Nat.le_of_ble_eq_true rfl⟩ (fun i_18 w H locs hH h => ?_)
  refine lv_iload_n hx hb dX1_sendHello_87 rfl (lv_at hl 6 rfl) ?_
  refine hx_Si C0 hU hH (As := [.int x1]) (wk_X1_secretOf l h) (va_cwS 1 hts (lw_S q701 q702 q60 q703) rfl rfl rfl (by decide +kernel) ⟨Nat.le_of_ble_eq_true rfl, Nat.le_of_ble_eq_true rfl⟩) rfl hl.1 rfl (Nat.le_of_ble_eq_true rfl) dX1_sendHello_88 ⟨Nat.le_of_ble_eq_true rfl, Nat.le_of_ble_eq_true rfl⟩ (fun i_19 w H locs hH h => ?_)
  refine hx_Si C0 hU hH (As := [.int i_18, .int i_19]) (wk_X1_power l h) (va_cwS 2 hts (lw_S q694 q695 q60 q696) rfl rfl rfl (by decide +kernel) ⟨Nat.le_of_ble_eq_true rfl, Nat.le_of_ble_eq_true rfl⟩) rfl hl.1 rfl (Nat.le_of_ble_eq_true rfl) dX1_sendHello_91 ⟨Nat.le_of_ble_eq_true rfl, Nat.le_of_ble_eq_true rfl⟩ (fun i_20 w H locs hH h => ?_)
  refine hx_sI C0 hU hH h dX1_sendHello_94 (fun w H locs hH h => ?_)
  refine hx_Si C0 hU hH (As := [va_rf (some b_15)]) (wk_X1_mix l h) (va_cwS 1 hts (lw_S q704 q705 q60 q706) rfl rfl rfl (by decide +kernel) ⟨Nat.le_of_ble_eq_true rfl, Nat.le_of_ble_eq_true rfl⟩) rfl hl.1 rfl (Nat.le_of_ble_eq_true rfl) dX1_sendHello_95 ⟨Nat.le_of_ble_eq_true rfl, Nat.le_of_ble_eq_true rfl⟩ (fun i_21 w H locs hH h => ?_)
  refine lv_istore hx hb dX1_sendHello_98 hl (by decide) (lv' := [(8, .int i_21), (7, .int i_14), (6, .int i_10), (5, .int i_9), (4, .int i_8), (3, va_rf (some b_12)), (0, va_rf (some a0)), (1, .int x1), (2, .int x2)]) rfl (fun ls hl => ?_)
  refine lv_iload hx hb dX1_sendHello_100 (lv_at hl 0 rfl) ?_
  refine lv_iconst (v := 5) hx hb dX1_sendHello_102 (by decide) ?_
  refine hx_nI C0 hU hH (Nat.le_of_ble_eq_true rfl) (Nat.le_of_ble_eq_true rfl) (Nat.le_of_ble_eq_true rfl) h dX1_sendHello_103 (fun b_22 w H locs hH h => ?_)
  refine lv_dup hx hb dX1_sendHello_105 rfl ?_
  refine lv_iconst (v := 0) hx hb dX1_sendHello_106 (by decide) ?_
  refine lv_iconst (v := 1) hx hb dX1_sendHello_107 (by decide) ?_
  refine hx_sI C0 hU hH h dX1_sendHello_108 (fun w H locs hH h => ?_)
  refine lv_dup hx hb dX1_sendHello_109 rfl ?_
  refine lv_iconst (v := 1) hx hb dX1_sendHello_110 (by decide) ?_
  refine hx_aload_n C0 dX1_sendHello_111 rfl (lv_at hl 6 rfl) ?_
  refine hx_gI C0 hU hH (ci := 0) rfl in_X1 1 (by decide) q264 (fun _ h9 => h9) h dX1_sendHello_112 (fun i_23 h => ?_)
  refine hx_sI C0 hU hH h dX1_sendHello_115 (fun w H locs hH h => ?_)
  refine lv_dup hx hb dX1_sendHello_116 rfl ?_
  refine lv_iconst (v := 2) hx hb dX1_sendHello_117 (by decide) ?_
  refine lv_iload hx hb dX1_sendHello_118 (lv_at hl 3 rfl) ?_
  refine hx_sI C0 hU hH h dX1_sendHello_120 (fun w H locs hH h => ?_)
  refine lv_dup hx hb dX1_sendHello_121 rfl ?_
  refine lv_iconst (v := 3) hx hb dX1_sendHello_122 (by decide) ?_
  refine lv_iload hx hb dX1_sendHello_123 (lv_at hl 2 rfl) ?_
  refine hx_sI C0 hU hH h dX1_sendHello_125 (fun w H locs hH h => ?_)
  refine lv_dup hx hb dX1_sendHello_126 rfl ?_
  refine lv_iconst (v := 4) hx hb dX1_sendHello_127 (by decide) ?_
  refine lv_iload hx hb dX1_sendHello_128 (lv_at hl 1 rfl) ?_
  refine hx_sI C0 hU hH h dX1_sendHello_130 (fun w H locs hH h => ?_)
  refine hx_Si C0 hU hH (As := [.int i_21, va_rf (some b_22)]) (wk_X1_sealOf l h) (va_cwS 2 hts (lw_S q643 q455 q60 q456) rfl rfl rfl (by decide +kernel) ⟨Nat.le_of_ble_eq_true rfl, Nat.le_of_ble_eq_true rfl⟩) rfl hl.1 rfl (Nat.le_of_ble_eq_true rfl) dX1_sendHello_131 ⟨Nat.le_of_ble_eq_true rfl, Nat.le_of_ble_eq_true rfl⟩ (fun i_24 w H locs hH h => ?_)
  refine lv_istore hx hb dX1_sendHello_134 hl (by decide) (lv' := [(9, .int i_24), (8, .int i_21), (7, .int i_14), (6, .int i_10), (5, .int i_9), (4, .int i_8), (3, va_rf (some b_12)), (0, va_rf (some a0)), (1, .int x1), (2, .int x2)]) rfl (fun ls hl => ?_)
  refine hx_aload_n C0 dX1_sendHello_136 rfl (lv_at hl 7 rfl) ?_
  refine hx_aload_n C0 dX1_sendHello_137 rfl (lv_at hl 6 rfl) ?_
  obtain ⟨ho, h⟩ := h
  refine hx_Vi C0 hU hH (As := [va_rf (some b_12)]) (wk_X1_hasCookie l h) (cwV 1 hts (lw_V q707 q709 qs17 q60 q710) rfl rfl rfl (by decide +kernel) ⟨Nat.le_of_ble_eq_true rfl, Nat.le_of_ble_eq_true rfl⟩) (hx_recv hU hH (ci := 0) rfl ho) rfl hl.1 rfl (Nat.le_of_ble_eq_true rfl) dX1_sendHello_138 ⟨Nat.le_of_ble_eq_true rfl, Nat.le_of_ble_eq_true rfl⟩ (fun i_25 w H locs hH h => ?_)
  refine lv_if_eq hx hb dX1_sendHello_141 (tgt := 169) (by decide) (fun c_26 => ?_) (fun c_26 => ?_)
  · have h := h.1 c_26
    refine lv_iconst (v := 0) hx hb dX1_sendHello_169 (by decide) ?_
    refine W.widen (k := 3) (n := 11) (Nat.le_of_ble_eq_true rfl) (Nat.le_of_ble_eq_true rfl) ?_
    exact b170 _ _ _ _ _ _ _ _ _ _ _ h _ _ _ hH (lv_sub hl [7, 8, 6, 5, 4, 3, 2, 1, 0] rfl)
  · have h := h.2 c_26
    refine lv_iconst (v := 3) hx hb dX1_sendHello_144 (by decide) ?_
    refine hx_nI C0 hU hH (Nat.le_of_ble_eq_true rfl) (Nat.le_of_ble_eq_true rfl) (Nat.le_of_ble_eq_true rfl) h dX1_sendHello_145 (fun b_27 w H locs hH h => ?_)
    refine lv_dup hx hb dX1_sendHello_147 rfl ?_
    refine lv_iconst (v := 0) hx hb dX1_sendHello_148 (by decide) ?_
    refine lv_iconst (v := 2) hx hb dX1_sendHello_149 (by decide) ?_
    refine hx_sI C0 hU hH h dX1_sendHello_150 (fun w H locs hH h => ?_)
    refine lv_dup hx hb dX1_sendHello_151 rfl ?_
    refine lv_iconst (v := 1) hx hb dX1_sendHello_152 (by decide) ?_
    refine hx_aload_n C0 dX1_sendHello_153 rfl (lv_at hl 6 rfl) ?_
    refine hx_gIN C0 hU hH (ci := 2) rfl in_X3 7 (by decide) q235 (fun _ h9 => h9) h dX1_sendHello_154 (fun i_28 h => ?_)
    refine hx_sI C0 hU hH h dX1_sendHello_157 (fun w H locs hH h => ?_)
    refine lv_dup hx hb dX1_sendHello_158 rfl ?_
    refine lv_iconst (v := 2) hx hb dX1_sendHello_159 (by decide) ?_
    refine lv_iload hx hb dX1_sendHello_160 (lv_at hl 0 rfl) ?_
    refine hx_sI C0 hU hH h dX1_sendHello_162 (fun w H locs hH h => ?_)
    refine hx_Si C0 hU hH (As := [va_rf (some b_27)]) (wk_X1_mix l h) (va_cwS 1 hts (lw_S q704 q705 q60 q706) rfl rfl rfl (by decide +kernel) ⟨Nat.le_of_ble_eq_true rfl, Nat.le_of_ble_eq_true rfl⟩) rfl hl.1 rfl (Nat.le_of_ble_eq_true rfl) dX1_sendHello_163 ⟨Nat.le_of_ble_eq_true rfl, Nat.le_of_ble_eq_true rfl⟩ (fun i_29 w H locs hH h => ?_)
    refine lv_goto hx hb dX1_sendHello_166 (tgt := 170) (by decide) ?_
    refine W.widen (k := 3) (n := 11) (Nat.le_of_ble_eq_true rfl) (Nat.le_of_ble_eq_true rfl) ?_
    exact b170 _ _ _ _ _ _ _ _ _ _ _ h _ _ _ hH (lv_sub hl [7, 8, 6, 5, 4, 3, 2, 1, 0] rfl)
def wp_X1_send_b139 (K : Hp → Int32 → Prop) (X : Hp → String → Prop)  (w : Hp) (a0 : Nat) (x1 : Int32) (x5 : Int32) (a6 : Nat) : Prop :=
  isO w a0 0 <| wp_X1_isFresh w a0 a6 fun w i_1 => br (i_1 = 0) (isO w a0 0 <| wp_X1_sendHello w a0 x1 x5 fun w => K w (1 : Int32)) (K w (1 : Int32))
def wp_X1_send_b39 (K : Hp → Int32 → Prop) (X : Hp → String → Prop)  (w : Hp)  : Prop :=
  X w eIA
def wp_X1_send (w : Hp) (a0 : Nat) (x1 : Int32) (x2 : Int32) (x3 : Int32) (x4 : Int32) (X : Hp → String → Prop) (K : Hp → Int32 → Prop) : Prop :=
  wp_X1_checkEnd w x1 X fun w => br (x2 < 0) (wp_X1_send_b39 K X w) (br ((255 : Int32) < x2) (wp_X1_send_b39 K X w) (br (x3 < 0) (wp_X1_send_b39 K X w) (br ((255 : Int32) < x3) (wp_X1_send_b39 K X w) (br (x4 < 0) (wp_X1_send_b39 K X w) (br (x4 ≤ (9999 : Int32)) (gR w a0 0 5 fun r_7 => dR r_7 fun b_8 => aR w b_8 x1 fun r_9 => dR r_9 fun b_10 => isO w b_10 1 <| wp_X2_route w b_10 x3 fun w i_11 => br (i_11 = (-1 : Int32)) (K w (-1 : Int32)) (gR w a0 0 6 fun r_13 => dR r_13 fun b_14 => aR w b_14 x1 fun r_15 => dR r_15 fun b_16 => aR w b_16 i_11 fun r_17 => dR r_17 fun b_18 => gR w b_18 2 2 fun r_19 => isO w a0 0 <| wp_X1_isUsable w a0 r_19 fun w i_20 => br (i_20 = 0) (isO w b_18 2 <| wp_X3_wait w b_18 x2 x3 x4 fun w => isO w a0 0 <| wp_X1_isFresh w a0 b_18 fun w i_22 => br (i_22 = 0) (isO w a0 0 <| wp_X1_sendHello w a0 x1 i_11 fun w => K w (0 : Int32)) (K w (0 : Int32))) (isO w a0 0 <| wp_X1_sendData w a0 x1 i_11 x2 x3 x4 fun w => gR w b_18 2 2 fun r_24 => dR r_24 fun b_25 => gI w b_25 6 5 fun i_26 => br (i_26 = 0) (K w (1 : Int32)) (isO w a0 0 <| wp_X1_age w a0 b_25 fun w i_28 => br ((20 : Int32) ≤ i_28) (wp_X1_send_b139 K X w a0 x1 i_11 b_18) (gI w b_25 6 7 fun i_30 => br (i_30 < (30 : Int32)) (K w (1 : Int32)) (wp_X1_send_b139 K X w a0 x1 i_11 b_18)))))) (wp_X1_send_b39 K X w))))))
abbrev rm_X1_send : Room := { frames := 10, cells := 14, slots := 578, locals := 323 }
abbrev ws9_X1_send : List Cond := ws_ yX1_send cX1_send 8 (Option.some Jvm.ClassFile.FieldType.int)
abbrev Q9_X1_send (below : List Frame) (args : Array Value) (s : State) (G : hG) (K : Hp → Int32 → Prop) (X : Hp → String → Prop) : State → Prop := vx_MQ below (hx_Qi G K) (hx_XC G X) args s 14 578 (hx_A G)
set_option maxHeartbeats 4000000 in
set_option maxRecDepth 100000 in
theorem wk_X1_send (l : Launch) (hst : l.stackTraces = false) {G : hG} {w : Hp} {a0 : Nat} {x1 : Int32} {x2 : Int32} {x3 : Int32} {x4 : Int32} {K : Hp → Int32 → Prop} {X : Hp → String → Prop} (h : wp_X1_send w a0 x1 x2 x3 x4 X K) : hx_xMi l yX1_send (ws9_X1_send) rm_X1_send G w [.ref a0, .int x1, .int x2, .int x3, .int x4] K X 14 578 := by
  refine vx_ofW (cc := cX1_send) (maxL := 8) (ret := (Option.some Jvm.ClassFile.FieldType.int)) (by decide +kernel) rfl ?_
  intro p e s m args below meth c s₁ B hml hex hv
  refine hx_in (own := RX1) (av := [.ref a0, .int x1, .int x2, .int x3, .int x4]) (vl := [(0, va_rf (some a0)), (1, .int x1), (2, .int x2), (3, .int x3), (4, .int x4)]) rfl rfl (Nat.le_of_ble_eq_true rfl) rfl B hml hv ?_
  intro C0 hU hH hr hlocks hin ls hl
  have hx := C0.1
  have hb := C0.2.1
  have hts := C0.2.2.2.2
  have b139 : ∀ (w : Hp) (a0 : Nat) (x1 : Int32) (x5 : Int32) (a6 : Nat), wp_X1_send_b139 K X  w a0 x1 x5 a6 → ∀ (H : Heap) (locs : List Loc) (ls : Array Slot), hx_H G w s H locs → lv_has ls 8 [(0, va_rf (some a0)), (1, .int x1), (5, .int x5), (6, va_rf (some a6))] → W p l e (headSpec (ws9_X1_send) rm_X1_send).room s m args below meth c H locs (6) (287) (Q9_X1_send below args s G K X) (F0 m 139 ls []) := by
    intro w a0 x1 x5 a6 h H locs ls hH hl
    refine hx_aload_n C0 dX1_send_139 rfl (lv_at hl 0 rfl) ?_
    refine hx_aload C0 dX1_send_140 (lv_at hl 3 rfl) ?_
    obtain ⟨ho, h⟩ := h
    refine hx_Vi C0 hU hH (As := [va_rf (some a6)]) (wk_X1_isFresh l h) (cwV 1 hts (lw_V q681 q683 qs15 q60 q684) rfl rfl rfl (by decide +kernel) ⟨Nat.le_of_ble_eq_true rfl, Nat.le_of_ble_eq_true rfl⟩) (hx_recv hU hH (ci := 0) rfl ho) rfl hl.1 rfl (Nat.le_of_ble_eq_true rfl) dX1_send_142 ⟨Nat.le_of_ble_eq_true rfl, Nat.le_of_ble_eq_true rfl⟩ (fun i_1 w H locs hH h => ?_)
    refine lv_if_ne hx hb dX1_send_145 (tgt := 155) (by decide) (fun c_2 => ?_) (fun c_2 => ?_)
    · have h := h.2 c_2
      refine lv_iconst (v := 1) hx hb dX1_send_155 (by decide) ?_
      exact hx_xreti C0 hH hr hlocks h (Nat.le_of_ble_eq_true rfl) (Nat.le_of_ble_eq_true rfl) dX1_send_156
    · have h := h.1 c_2
      refine hx_aload_n C0 dX1_send_148 rfl (lv_at hl 0 rfl) ?_
      refine lv_iload_n hx hb dX1_send_149 rfl (lv_at hl 1 rfl) ?_
      refine lv_iload hx hb dX1_send_150 (lv_at hl 2 rfl) ?_
      obtain ⟨ho, h⟩ := h
      refine hx_Vv C0 hU hH (As := [.int x1, .int x5]) (wk_X1_sendHello l h) (cwV 2 hts (lw_V q685 q687 qs16 q60 q688) rfl rfl rfl (by decide +kernel) ⟨Nat.le_of_ble_eq_true rfl, Nat.le_of_ble_eq_true rfl⟩) (hx_recv hU hH (ci := 0) rfl ho) rfl hl.1 rfl (Nat.le_of_ble_eq_true rfl) dX1_send_152 ⟨Nat.le_of_ble_eq_true rfl, Nat.le_of_ble_eq_true rfl⟩ (fun w H locs hH h => ?_)
      refine lv_iconst (v := 1) hx hb dX1_send_155 (by decide) ?_
      exact hx_xreti C0 hH hr hlocks h (Nat.le_of_ble_eq_true rfl) (Nat.le_of_ble_eq_true rfl) dX1_send_156
  have b39 : ∀ (w : Hp) , wp_X1_send_b39 K X  w  → ∀ (H : Heap) (locs : List Loc) (ls : Array Slot), hx_H G w s H locs → lv_has ls 8 [] → W p l e (headSpec (ws9_X1_send) rm_X1_send).room s m args below meth c H locs (1) (6) (Q9_X1_send below args s G K X) (F0 m 39 ls []) := by
    intro w  h H locs ls hH hl
    exact hx_throw C0 hU hH hst (text := "packet") (cls := eIA) (names := hx_names) hl.1 rfl hx_names_fit q496 q75 q629 hat_eIA good_eIA_51 dX1_send_39 dX1_send_42 dX1_send_43 dX1_send_45 dX1_send_48 hex hlocks h (Nat.le_of_ble_eq_true rfl) (Nat.le_of_ble_eq_true rfl) (Nat.le_of_ble_eq_true rfl) (Nat.le_of_ble_eq_true rfl) (Nat.le_of_ble_eq_true rfl) (Nat.le_of_ble_eq_true rfl)
  refine lv_iload_n hx hb dX1_send_0 rfl (lv_at hl 1 rfl) ?_
  refine hx_xSv C0 hU hH (As := [.int x1]) (wk_X1_checkEnd l hst h) (va_cwS 1 hts (lw_S q569 q570 q60 q571) rfl rfl rfl (by decide +kernel) ⟨Nat.le_of_ble_eq_true rfl, Nat.le_of_ble_eq_true rfl⟩) rfl hl.1 rfl (Nat.le_of_ble_eq_true rfl) dX1_send_1 ⟨Nat.le_of_ble_eq_true rfl, Nat.le_of_ble_eq_true rfl⟩ (fun E ce q9 w H locs hH hXE h1 h2 h3 => hx_xout hH hXE h1 h2 h3 hex hlocks (Nat.le_of_ble_eq_true rfl) (Nat.le_of_ble_eq_true rfl)) (fun w H locs hH h => ?_)
  refine lv_iload_n hx hb dX1_send_4 rfl (lv_at hl 2 rfl) ?_
  refine lv_if_lt hx hb dX1_send_5 (tgt := 39) (by decide) (fun c_1 => ?_) (fun c_1 => ?_)
  · have h := h.1 c_1
    refine W.widen (k := 1) (n := 6) (Nat.le_of_ble_eq_true rfl) (Nat.le_of_ble_eq_true rfl) ?_
    exact b39 _  h _ _ _ hH (lv_sub hl [] rfl)
  · have h := h.2 c_1
    refine lv_iload_n hx hb dX1_send_8 rfl (lv_at hl 2 rfl) ?_
    refine lv_sipush (v := 255) hx hb dX1_send_9 (by decide) ?_
    refine lv_icmp_gt hx hb dX1_send_12 (tgt := 39) (by decide) (fun c_2 => ?_) (fun c_2 => ?_)
    · have h := h.1 c_2
      refine W.widen (k := 1) (n := 6) (Nat.le_of_ble_eq_true rfl) (Nat.le_of_ble_eq_true rfl) ?_
      exact b39 _  h _ _ _ hH (lv_sub hl [] rfl)
    · have h := h.2 c_2
      refine lv_iload_n hx hb dX1_send_15 rfl (lv_at hl 3 rfl) ?_
      refine lv_if_lt hx hb dX1_send_16 (tgt := 39) (by decide) (fun c_3 => ?_) (fun c_3 => ?_)
      · have h := h.1 c_3
        refine W.widen (k := 1) (n := 6) (Nat.le_of_ble_eq_true rfl) (Nat.le_of_ble_eq_true rfl) ?_
        exact b39 _  h _ _ _ hH (lv_sub hl [] rfl)
      · have h := h.2 c_3
        refine lv_iload_n hx hb dX1_send_19 rfl (lv_at hl 3 rfl) ?_
        refine lv_sipush (v := 255) hx hb dX1_send_20 (by decide) ?_
        refine lv_icmp_gt hx hb dX1_send_23 (tgt := 39) (by decide) (fun c_4 => ?_) (fun c_4 => ?_)
        · have h := h.1 c_4
          refine W.widen (k := 1) (n := 6) (Nat.le_of_ble_eq_true rfl) (Nat.le_of_ble_eq_true rfl) ?_
          exact b39 _  h _ _ _ hH (lv_sub hl [] rfl)
        · have h := h.2 c_4
          refine lv_iload hx hb dX1_send_26 (lv_at hl 4 rfl) ?_
          refine lv_if_lt hx hb dX1_send_28 (tgt := 39) (by decide) (fun c_5 => ?_) (fun c_5 => ?_)
          · have h := h.1 c_5
            refine W.widen (k := 1) (n := 6) (Nat.le_of_ble_eq_true rfl) (Nat.le_of_ble_eq_true rfl) ?_
            exact b39 _  h _ _ _ hH (lv_sub hl [] rfl)
          · have h := h.2 c_5
            refine lv_iload hx hb dX1_send_31 (lv_at hl 4 rfl) ?_
            refine lv_sipush (v := 9999) hx hb dX1_send_33 (by decide) ?_
            refine lv_icmp_le hx hb dX1_send_36 (tgt := 49) (by decide) (fun c_6 => ?_) (fun c_6 => ?_)
            · have h := h.1 c_6
              refine hx_aload_n C0 dX1_send_49 rfl (lv_at hl 0 rfl) ?_
              refine hx_gR C0 hU hH (ci := 0) rfl in_X1 5 (by decide) q268 (fun _ h9 => h9) h dX1_send_50 (fun r_7 h => ?_)
              refine lv_iload_n hx hb dX1_send_53 rfl (lv_at hl 1 rfl) ?_
              obtain ⟨b_8, rfl, h9⟩ := h
              have h := h9
              clear h9
              refine hx_aR C0 hU hH h dX1_send_54 (fun r_9 h => ?_)
              refine lv_iload_n hx hb dX1_send_55 rfl (lv_at hl 3 rfl) ?_
              obtain ⟨b_10, rfl, h9⟩ := h
              have h := h9
              clear h9
              obtain ⟨ho, h⟩ := h
              refine hx_VNi C0 hU hH (As := [.int x3]) (wk_X2_route l h) ⟨va_cnB 1 hts (lw_meth q633) rfl rfl rfl (hU.2.2.1 _ q630 rfl) (hts _ q64) (by decide +kernel) ⟨Nat.le_of_ble_eq_true rfl, Nat.le_of_ble_eq_true rfl⟩, hts _ q632, hts _ qs11⟩ (hx_recv hU hH (ci := 1) rfl ho) rfl hl.1 rfl (Nat.le_of_ble_eq_true rfl) dX1_send_56 ⟨Nat.le_of_ble_eq_true rfl, Nat.le_of_ble_eq_true rfl⟩ (fun i_11 w H locs hH h => ?_)
              refine lv_istore hx hb dX1_send_59 hl (by decide) (lv' := [(5, .int i_11), (0, va_rf (some a0)), (1, .int x1), (2, .int x2), (3, .int x3), (4, .int x4)]) rfl (fun ls hl => ?_)
              refine lv_iload hx hb dX1_send_61 (lv_at hl 0 rfl) ?_
              refine lv_iconst (v := -1) hx hb dX1_send_63 (by decide) ?_
              refine lv_icmp_ne hx hb dX1_send_64 (tgt := 69) (by decide) (fun c_12 => ?_) (fun c_12 => ?_)
              · have h := h.2 c_12
                refine hx_aload_n C0 dX1_send_69 rfl (lv_at hl 1 rfl) ?_
                refine hx_gR C0 hU hH (ci := 0) rfl in_X1 6 (by decide) q269 (fun _ h9 => h9) h dX1_send_70 (fun r_13 h => ?_)
                refine lv_iload_n hx hb dX1_send_73 rfl (lv_at hl 2 rfl) ?_
                obtain ⟨b_14, rfl, h9⟩ := h
                have h := h9
                clear h9
                refine hx_aR C0 hU hH h dX1_send_74 (fun r_15 h => ?_)
                refine lv_iload hx hb dX1_send_75 (lv_at hl 0 rfl) ?_
                obtain ⟨b_16, rfl, h9⟩ := h
                have h := h9
                clear h9
                refine hx_aR C0 hU hH h dX1_send_77 (fun r_17 h => ?_)
                refine hx_astore C0 dX1_send_78 hl (by decide) (lv' := [(6, va_rf r_17), (5, .int i_11), (0, va_rf (some a0)), (1, .int x1), (2, .int x2), (3, .int x3), (4, .int x4)]) rfl (fun ls hl => ?_)
                refine hx_aload_n C0 dX1_send_80 rfl (lv_at hl 2 rfl) ?_
                refine hx_aload C0 dX1_send_81 (lv_at hl 0 rfl) ?_
                obtain ⟨b_18, rfl, h9⟩ := h
                have h := h9
                clear h9
                refine hx_gRN C0 hU hH (ci := 2) rfl in_X3 2 (by decide) q228 (fun _ h9 => h9) h dX1_send_83 (fun r_19 h => ?_)
                obtain ⟨ho, h⟩ := h
                refine hx_Vi C0 hU hH (As := [va_rf r_19]) (wk_X1_isUsable l h) (cwV 1 hts (lw_V q635 q637 qs12 q60 q638) rfl rfl rfl (by decide +kernel) ⟨Nat.le_of_ble_eq_true rfl, Nat.le_of_ble_eq_true rfl⟩) (hx_recv hU hH (ci := 0) rfl ho) rfl hl.1 rfl (Nat.le_of_ble_eq_true rfl) dX1_send_86 ⟨Nat.le_of_ble_eq_true rfl, Nat.le_of_ble_eq_true rfl⟩ (fun i_20 w H locs hH h => ?_)
                refine lv_if_eq hx hb dX1_send_89 (tgt := 157) (by decide) (fun c_21 => ?_) (fun c_21 => ?_)
                · have h := h.1 c_21
                  refine hx_aload C0 dX1_send_157 (lv_at hl 0 rfl) ?_
                  refine lv_iload_n hx hb dX1_send_159 rfl (lv_at hl 4 rfl) ?_
                  refine lv_iload_n hx hb dX1_send_160 rfl (lv_at hl 5 rfl) ?_
                  refine lv_iload hx hb dX1_send_161 (lv_at hl 6 rfl) ?_
                  obtain ⟨ho, h⟩ := h
                  refine hx_VNv C0 hU hH (As := [.int x2, .int x3, .int x4]) (wk_X3_wait l h) ⟨va_cnB 3 hts (lw_meth q741) rfl rfl rfl (hU.2.2.1 _ q738 rfl) (hts _ q70) (by decide +kernel) ⟨Nat.le_of_ble_eq_true rfl, Nat.le_of_ble_eq_true rfl⟩, hts _ q740, hts _ qs18⟩ (hx_recv hU hH (ci := 2) rfl ho) rfl hl.1 rfl (Nat.le_of_ble_eq_true rfl) dX1_send_163 ⟨Nat.le_of_ble_eq_true rfl, Nat.le_of_ble_eq_true rfl⟩ (fun w H locs hH h => ?_)
                  refine hx_aload_n C0 dX1_send_166 rfl (lv_at hl 2 rfl) ?_
                  refine hx_aload C0 dX1_send_167 (lv_at hl 0 rfl) ?_
                  obtain ⟨ho, h⟩ := h
                  refine hx_Vi C0 hU hH (As := [va_rf (some b_18)]) (wk_X1_isFresh l h) (cwV 1 hts (lw_V q681 q683 qs15 q60 q684) rfl rfl rfl (by decide +kernel) ⟨Nat.le_of_ble_eq_true rfl, Nat.le_of_ble_eq_true rfl⟩) (hx_recv hU hH (ci := 0) rfl ho) rfl hl.1 rfl (Nat.le_of_ble_eq_true rfl) dX1_send_169 ⟨Nat.le_of_ble_eq_true rfl, Nat.le_of_ble_eq_true rfl⟩ (fun i_22 w H locs hH h => ?_)
                  refine lv_if_ne hx hb dX1_send_172 (tgt := 182) (by decide) (fun c_23 => ?_) (fun c_23 => ?_)
                  · have h := h.2 c_23
                    refine lv_iconst (v := 0) hx hb dX1_send_182 (by decide) ?_
                    exact hx_xreti C0 hH hr hlocks h (Nat.le_of_ble_eq_true rfl) (Nat.le_of_ble_eq_true rfl) dX1_send_183
                  · have h := h.1 c_23
                    refine hx_aload_n C0 dX1_send_175 rfl (lv_at hl 2 rfl) ?_
                    refine lv_iload_n hx hb dX1_send_176 rfl (lv_at hl 3 rfl) ?_
                    refine lv_iload hx hb dX1_send_177 (lv_at hl 1 rfl) ?_
                    obtain ⟨ho, h⟩ := h
                    refine hx_Vv C0 hU hH (As := [.int x1, .int i_11]) (wk_X1_sendHello l h) (cwV 2 hts (lw_V q685 q687 qs16 q60 q688) rfl rfl rfl (by decide +kernel) ⟨Nat.le_of_ble_eq_true rfl, Nat.le_of_ble_eq_true rfl⟩) (hx_recv hU hH (ci := 0) rfl ho) rfl hl.1 rfl (Nat.le_of_ble_eq_true rfl) dX1_send_179 ⟨Nat.le_of_ble_eq_true rfl, Nat.le_of_ble_eq_true rfl⟩ (fun w H locs hH h => ?_)
                    refine lv_iconst (v := 0) hx hb dX1_send_182 (by decide) ?_
                    exact hx_xreti C0 hH hr hlocks h (Nat.le_of_ble_eq_true rfl) (Nat.le_of_ble_eq_true rfl) dX1_send_183
                · have h := h.2 c_21
                  refine hx_aload_n C0 dX1_send_92 rfl (lv_at hl 2 rfl) ?_
                  refine lv_iload_n hx hb dX1_send_93 rfl (lv_at hl 3 rfl) ?_
                  refine lv_iload hx hb dX1_send_94 (lv_at hl 1 rfl) ?_
                  refine lv_iload_n hx hb dX1_send_96 rfl (lv_at hl 4 rfl) ?_
                  refine lv_iload_n hx hb dX1_send_97 rfl (lv_at hl 5 rfl) ?_
                  refine lv_iload hx hb dX1_send_98 (lv_at hl 6 rfl) ?_
                  obtain ⟨ho, h⟩ := h
                  refine hx_Vv C0 hU hH (As := [.int x1, .int i_11, .int x2, .int x3, .int x4]) (wk_X1_sendData l h) (cwV 5 hts (lw_V q639 q641 qs13 q60 q642) rfl rfl rfl (by decide +kernel) ⟨Nat.le_of_ble_eq_true rfl, Nat.le_of_ble_eq_true rfl⟩) (hx_recv hU hH (ci := 0) rfl ho) rfl hl.1 rfl (Nat.le_of_ble_eq_true rfl) dX1_send_100 ⟨Nat.le_of_ble_eq_true rfl, Nat.le_of_ble_eq_true rfl⟩ (fun w H locs hH h => ?_)
                  refine hx_aload C0 dX1_send_103 (lv_at hl 0 rfl) ?_
                  refine hx_gRN C0 hU hH (ci := 2) rfl in_X3 2 (by decide) q228 (fun _ h9 => h9) h dX1_send_105 (fun r_24 h => ?_)
                  refine hx_astore C0 dX1_send_108 hl (by decide) (lv' := [(7, va_rf r_24), (6, va_rf (some b_18)), (5, .int i_11), (0, va_rf (some a0)), (1, .int x1), (2, .int x2), (3, .int x3), (4, .int x4)]) rfl (fun ls hl => ?_)
                  refine hx_aload C0 dX1_send_110 (lv_at hl 0 rfl) ?_
                  obtain ⟨b_25, rfl, h9⟩ := h
                  have h := h9
                  clear h9
                  refine hx_gIN C0 hU hH (ci := 6) rfl in_X7 5 (by decide) q813 (fun _ h9 => h9) h dX1_send_112 (fun i_26 h => ?_)
                  refine lv_if_eq hx hb dX1_send_115 (tgt := 155) (by decide) (fun c_27 => ?_) (fun c_27 => ?_)
                  · have h := h.1 c_27
                    refine lv_iconst (v := 1) hx hb dX1_send_155 (by decide) ?_
                    exact hx_xreti C0 hH hr hlocks h (Nat.le_of_ble_eq_true rfl) (Nat.le_of_ble_eq_true rfl) dX1_send_156
                  · have h := h.2 c_27
                    refine hx_aload_n C0 dX1_send_118 rfl (lv_at hl 3 rfl) ?_
                    refine hx_aload C0 dX1_send_119 (lv_at hl 0 rfl) ?_
                    obtain ⟨ho, h⟩ := h
                    refine hx_Vi C0 hU hH (As := [va_rf (some b_25)]) (wk_X1_age l h) (cwV 1 hts (lw_V q314 q316 qs3 q60 q317) rfl rfl rfl (by decide +kernel) ⟨Nat.le_of_ble_eq_true rfl, Nat.le_of_ble_eq_true rfl⟩) (hx_recv hU hH (ci := 0) rfl ho) rfl hl.1 rfl (Nat.le_of_ble_eq_true rfl) dX1_send_121 ⟨Nat.le_of_ble_eq_true rfl, Nat.le_of_ble_eq_true rfl⟩ (fun i_28 w H locs hH h => ?_)
                    refine lv_bipush (v := 20) hx hb dX1_send_124 (by decide) ?_
                    refine lv_icmp_ge hx hb dX1_send_126 (tgt := 139) (by decide) (fun c_29 => ?_) (fun c_29 => ?_)
                    · have h := h.1 c_29
                      refine W.widen (k := 6) (n := 287) (Nat.le_of_ble_eq_true rfl) (Nat.le_of_ble_eq_true rfl) ?_
                      exact b139 _ _ _ _ _ h _ _ _ hH (lv_sub hl [3, 4, 2, 1] rfl)
                    · have h := h.2 c_29
                      refine hx_aload C0 dX1_send_129 (lv_at hl 0 rfl) ?_
                      refine hx_gIN C0 hU hH (ci := 6) rfl in_X7 7 (by decide) q816 (fun _ h9 => h9) h dX1_send_131 (fun i_30 h => ?_)
                      refine lv_bipush (v := 30) hx hb dX1_send_134 (by decide) ?_
                      refine lv_icmp_lt hx hb dX1_send_136 (tgt := 155) (by decide) (fun c_31 => ?_) (fun c_31 => ?_)
                      · have h := h.1 c_31
                        refine lv_iconst (v := 1) hx hb dX1_send_155 (by decide) ?_
                        exact hx_xreti C0 hH hr hlocks h (Nat.le_of_ble_eq_true rfl) (Nat.le_of_ble_eq_true rfl) dX1_send_156
                      · have h := h.2 c_31
                        refine W.widen (k := 6) (n := 287) (Nat.le_of_ble_eq_true rfl) (Nat.le_of_ble_eq_true rfl) ?_
                        exact b139 _ _ _ _ _ h _ _ _ hH (lv_sub hl [3, 4, 2, 1] rfl)
              · have h := h.1 c_12
                refine lv_iconst (v := -1) hx hb dX1_send_67 (by decide) ?_
                exact hx_xreti C0 hH hr hlocks h (Nat.le_of_ble_eq_true rfl) (Nat.le_of_ble_eq_true rfl) dX1_send_68
            · have h := h.2 c_6
              refine W.widen (k := 1) (n := 6) (Nat.le_of_ble_eq_true rfl) (Nat.le_of_ble_eq_true rfl) ?_
              exact b39 _  h _ _ _ hH (lv_sub hl [] rfl)
def wp_X1_checkPeer (w : Hp) (x0 : Int32) (x1 : Int32) (X : Hp → String → Prop) (K : Hp → Prop) : Prop :=
  wp_X1_checkEnd w x0 X fun w => wp_X1_checkEnd w x1 X fun w => br (x0 = x1) (X w eIA) (K w)
abbrev rm_X1_checkPeer : Room := { frames := 7, cells := 3, slots := 18, locals := 102 }
abbrev ws9_X1_checkPeer : List Cond := ws_ yX1_checkPeer cX1_checkPeer 2 none
abbrev Q9_X1_checkPeer (below : List Frame) (args : Array Value) (s : State) (G : hG) (K : Hp → Prop) (X : Hp → String → Prop) : State → Prop := vx_MQ below (hx_Qv G K) (hx_XC G X) args s 3 18 (hx_A G)
set_option maxHeartbeats 4000000 in
set_option maxRecDepth 100000 in
theorem wk_X1_checkPeer (l : Launch) (hst : l.stackTraces = false) {G : hG} {w : Hp} {x0 : Int32} {x1 : Int32} {K : Hp → Prop} {X : Hp → String → Prop} (h : wp_X1_checkPeer w x0 x1 X K) : hx_xMv l yX1_checkPeer (ws9_X1_checkPeer) rm_X1_checkPeer G w [.int x0, .int x1] K X 3 18 := by
  refine vx_ofW (cc := cX1_checkPeer) (maxL := 2) (ret := none) (by decide +kernel) rfl ?_
  intro p e s m args below meth c s₁ B hml hex hv
  refine hx_in (own := RX1) (av := [.int x0, .int x1]) (vl := [(0, .int x0), (1, .int x1)]) rfl rfl (Nat.le_of_ble_eq_true rfl) rfl B hml hv ?_
  intro C0 hU hH hr hlocks hin ls hl
  have hx := C0.1
  have hb := C0.2.1
  have hts := C0.2.2.2.2
  refine lv_iload_n hx hb dX1_checkPeer_0 rfl (lv_at hl 0 rfl) ?_
  refine hx_xSv C0 hU hH (As := [.int x0]) (wk_X1_checkEnd l hst h) (va_cwS 1 hts (lw_S q569 q570 q60 q571) rfl rfl rfl (by decide +kernel) ⟨Nat.le_of_ble_eq_true rfl, Nat.le_of_ble_eq_true rfl⟩) rfl hl.1 rfl (Nat.le_of_ble_eq_true rfl) dX1_checkPeer_1 ⟨Nat.le_of_ble_eq_true rfl, Nat.le_of_ble_eq_true rfl⟩ (fun E ce q9 w H locs hH hXE h1 h2 h3 => hx_xout hH hXE h1 h2 h3 hex hlocks (Nat.le_of_ble_eq_true rfl) (Nat.le_of_ble_eq_true rfl)) (fun w H locs hH h => ?_)
  refine lv_iload_n hx hb dX1_checkPeer_4 rfl (lv_at hl 1 rfl) ?_
  refine hx_xSv C0 hU hH (As := [.int x1]) (wk_X1_checkEnd l hst h) (va_cwS 1 hts (lw_S q569 q570 q60 q571) rfl rfl rfl (by decide +kernel) ⟨Nat.le_of_ble_eq_true rfl, Nat.le_of_ble_eq_true rfl⟩) rfl hl.1 rfl (Nat.le_of_ble_eq_true rfl) dX1_checkPeer_5 ⟨Nat.le_of_ble_eq_true rfl, Nat.le_of_ble_eq_true rfl⟩ (fun E ce q9 w H locs hH hXE h1 h2 h3 => hx_xout hH hXE h1 h2 h3 hex hlocks (Nat.le_of_ble_eq_true rfl) (Nat.le_of_ble_eq_true rfl)) (fun w H locs hH h => ?_)
  refine lv_iload_n hx hb dX1_checkPeer_8 rfl (lv_at hl 0 rfl) ?_
  refine lv_iload_n hx hb dX1_checkPeer_9 rfl (lv_at hl 1 rfl) ?_
  refine lv_icmp_ne hx hb dX1_checkPeer_10 (tgt := 24) (by decide) (fun c_1 => ?_) (fun c_1 => ?_)
  · have h := h.2 c_1
    exact hx_xretv C0 hH hr hlocks h (Nat.le_of_ble_eq_true rfl) (Nat.le_of_ble_eq_true rfl) dX1_checkPeer_24
  · have h := h.1 c_1
    exact hx_throwW C0 hU hH hst (text := "peer") (cls := eIA) (names := hx_names) hl.1 rfl hx_names_fit q496 q75 q756 hat_eIA good_eIA_51 dX1_checkPeer_13 dX1_checkPeer_16 dX1_checkPeer_17 dX1_checkPeer_20 dX1_checkPeer_23 hex hlocks h (Nat.le_of_ble_eq_true rfl) (Nat.le_of_ble_eq_true rfl) (Nat.le_of_ble_eq_true rfl) (Nat.le_of_ble_eq_true rfl) (Nat.le_of_ble_eq_true rfl) (Nat.le_of_ble_eq_true rfl)
def wp_X1_keep (w : Hp) (a0 : Nat) (x1 : Int32) (x2 : Int32) (X : Hp → String → Prop) (K : Hp → Int32 → Prop) : Prop :=
  wp_X1_checkPeer w x1 x2 X fun w => gR w a0 0 6 fun r_1 => dR r_1 fun b_2 => aR w b_2 x1 fun r_3 => dR r_3 fun b_4 => aR w b_4 x2 fun r_5 => dR r_5 fun b_6 => gR w b_6 2 2 fun r_7 => isO w a0 0 <| wp_X1_isUsable w a0 r_7 fun w i_8 => br (i_8 = 0) (K w (0 : Int32)) (isO w a0 0 <| wp_X1_sendData w a0 x1 x2 (-1 : Int32) (-1 : Int32) (-1 : Int32) fun w => K w (1 : Int32))
abbrev rm_X1_keep : Room := { frames := 10, cells := 8, slots := 299, locals := 321 }
abbrev ws9_X1_keep : List Cond := ws_ yX1_keep cX1_keep 3 (Option.some Jvm.ClassFile.FieldType.boolean)
abbrev Q9_X1_keep (below : List Frame) (args : Array Value) (s : State) (G : hG) (K : Hp → Int32 → Prop) (X : Hp → String → Prop) : State → Prop := vx_MQ below (hx_Qi G K) (hx_XC G X) args s 8 299 (hx_A G)
set_option maxHeartbeats 4000000 in
set_option maxRecDepth 100000 in
theorem wk_X1_keep (l : Launch) (hst : l.stackTraces = false) {G : hG} {w : Hp} {a0 : Nat} {x1 : Int32} {x2 : Int32} {K : Hp → Int32 → Prop} {X : Hp → String → Prop} (h : wp_X1_keep w a0 x1 x2 X K) : hx_xMi l yX1_keep (ws9_X1_keep) rm_X1_keep G w [.ref a0, .int x1, .int x2] K X 8 299 := by
  refine vx_ofW (cc := cX1_keep) (maxL := 3) (ret := (Option.some Jvm.ClassFile.FieldType.boolean)) (by decide +kernel) rfl ?_
  intro p e s m args below meth c s₁ B hml hex hv
  refine hx_in (own := RX1) (av := [.ref a0, .int x1, .int x2]) (vl := [(0, va_rf (some a0)), (1, .int x1), (2, .int x2)]) rfl rfl (Nat.le_of_ble_eq_true rfl) rfl B hml hv ?_
  intro C0 hU hH hr hlocks hin ls hl
  have hx := C0.1
  have hb := C0.2.1
  have hts := C0.2.2.2.2
  refine lv_iload_n hx hb dX1_keep_0 rfl (lv_at hl 1 rfl) ?_
  refine lv_iload_n hx hb dX1_keep_1 rfl (lv_at hl 2 rfl) ?_
  refine hx_xSv C0 hU hH (As := [.int x1, .int x2]) (wk_X1_checkPeer l hst h) (va_cwS 2 hts (lw_S q753 q754 q60 q755) rfl rfl rfl (by decide +kernel) ⟨Nat.le_of_ble_eq_true rfl, Nat.le_of_ble_eq_true rfl⟩) rfl hl.1 rfl (Nat.le_of_ble_eq_true rfl) dX1_keep_2 ⟨Nat.le_of_ble_eq_true rfl, Nat.le_of_ble_eq_true rfl⟩ (fun E ce q9 w H locs hH hXE h1 h2 h3 => hx_xout hH hXE h1 h2 h3 hex hlocks (Nat.le_of_ble_eq_true rfl) (Nat.le_of_ble_eq_true rfl)) (fun w H locs hH h => ?_)
  refine hx_aload_n C0 dX1_keep_5 rfl (lv_at hl 0 rfl) ?_
  refine hx_aload_n C0 dX1_keep_6 rfl (lv_at hl 0 rfl) ?_
  refine hx_gR C0 hU hH (ci := 0) rfl in_X1 6 (by decide) q269 (fun _ h9 => h9) h dX1_keep_7 (fun r_1 h => ?_)
  refine lv_iload_n hx hb dX1_keep_10 rfl (lv_at hl 1 rfl) ?_
  obtain ⟨b_2, rfl, h9⟩ := h
  have h := h9
  clear h9
  refine hx_aR C0 hU hH h dX1_keep_11 (fun r_3 h => ?_)
  refine lv_iload_n hx hb dX1_keep_12 rfl (lv_at hl 2 rfl) ?_
  obtain ⟨b_4, rfl, h9⟩ := h
  have h := h9
  clear h9
  refine hx_aR C0 hU hH h dX1_keep_13 (fun r_5 h => ?_)
  obtain ⟨b_6, rfl, h9⟩ := h
  have h := h9
  clear h9
  refine hx_gRN C0 hU hH (ci := 2) rfl in_X3 2 (by decide) q228 (fun _ h9 => h9) h dX1_keep_14 (fun r_7 h => ?_)
  obtain ⟨ho, h⟩ := h
  refine hx_Vi C0 hU hH (As := [va_rf r_7]) (wk_X1_isUsable l h) (cwV 1 hts (lw_V q635 q637 qs12 q60 q638) rfl rfl rfl (by decide +kernel) ⟨Nat.le_of_ble_eq_true rfl, Nat.le_of_ble_eq_true rfl⟩) (hx_recv hU hH (ci := 0) rfl ho) rfl hl.1 rfl (Nat.le_of_ble_eq_true rfl) dX1_keep_17 ⟨Nat.le_of_ble_eq_true rfl, Nat.le_of_ble_eq_true rfl⟩ (fun i_8 w H locs hH h => ?_)
  refine lv_if_ne hx hb dX1_keep_20 (tgt := 25) (by decide) (fun c_9 => ?_) (fun c_9 => ?_)
  · have h := h.2 c_9
    refine hx_aload_n C0 dX1_keep_25 rfl (lv_at hl 0 rfl) ?_
    refine lv_iload_n hx hb dX1_keep_26 rfl (lv_at hl 1 rfl) ?_
    refine lv_iload_n hx hb dX1_keep_27 rfl (lv_at hl 2 rfl) ?_
    refine lv_iconst (v := -1) hx hb dX1_keep_28 (by decide) ?_
    refine lv_iconst (v := -1) hx hb dX1_keep_29 (by decide) ?_
    refine lv_iconst (v := -1) hx hb dX1_keep_30 (by decide) ?_
    obtain ⟨ho, h⟩ := h
    refine hx_Vv C0 hU hH (As := [.int x1, .int x2, .int (-1 : Int32), .int (-1 : Int32), .int (-1 : Int32)]) (wk_X1_sendData l h) (cwV 5 hts (lw_V q639 q641 qs13 q60 q642) rfl rfl rfl (by decide +kernel) ⟨Nat.le_of_ble_eq_true rfl, Nat.le_of_ble_eq_true rfl⟩) (hx_recv hU hH (ci := 0) rfl ho) rfl hl.1 rfl (Nat.le_of_ble_eq_true rfl) dX1_keep_31 ⟨Nat.le_of_ble_eq_true rfl, Nat.le_of_ble_eq_true rfl⟩ (fun w H locs hH h => ?_)
    refine lv_iconst (v := 1) hx hb dX1_keep_34 (by decide) ?_
    exact hx_xretz C0 hH hr hlocks (Or.inr rfl) h (Nat.le_of_ble_eq_true rfl) (Nat.le_of_ble_eq_true rfl) dX1_keep_35
  · have h := h.1 c_9
    refine lv_iconst (v := 0) hx hb dX1_keep_23 (by decide) ?_
    exact hx_xretz C0 hH hr hlocks (Or.inl rfl) h (Nat.le_of_ble_eq_true rfl) (Nat.le_of_ble_eq_true rfl) dX1_keep_24
def wp_X1_greet (w : Hp) (a0 : Nat) (x1 : Int32) (x2 : Int32) (X : Hp → String → Prop) (K : Hp → Int32 → Prop) : Prop :=
  wp_X1_checkPeer w x1 x2 X fun w => gR w a0 0 6 fun r_1 => dR r_1 fun b_2 => aR w b_2 x1 fun r_3 => dR r_3 fun b_4 => aR w b_4 x2 fun r_5 => dR r_5 fun b_6 => isO w a0 0 <| wp_X1_isFresh w a0 b_6 fun w i_7 => br (i_7 = 0) (isO w a0 0 <| wp_X1_sendHello w a0 x1 x2 fun w => gR w a0 0 6 fun r_9 => dR r_9 fun b_10 => aR w b_10 x1 fun r_11 => dR r_11 fun b_12 => aR w b_12 x2 fun r_13 => dR r_13 fun b_14 => gR w b_14 2 4 fun r_15 => dR r_15 fun b_16 => gI w b_16 5 0 fun i_17 => K w i_17) (X w eIS)
abbrev rm_X1_greet : Room := { frames := 10, cells := 11, slots := 309, locals := 323 }
abbrev ws9_X1_greet : List Cond := ws_ yX1_greet cX1_greet 3 (Option.some Jvm.ClassFile.FieldType.int)
abbrev Q9_X1_greet (below : List Frame) (args : Array Value) (s : State) (G : hG) (K : Hp → Int32 → Prop) (X : Hp → String → Prop) : State → Prop := vx_MQ below (hx_Qi G K) (hx_XC G X) args s 11 309 (hx_A G)
set_option maxHeartbeats 4000000 in
set_option maxRecDepth 100000 in
theorem wk_X1_greet (l : Launch) (hst : l.stackTraces = false) {G : hG} {w : Hp} {a0 : Nat} {x1 : Int32} {x2 : Int32} {K : Hp → Int32 → Prop} {X : Hp → String → Prop} (h : wp_X1_greet w a0 x1 x2 X K) : hx_xMi l yX1_greet (ws9_X1_greet) rm_X1_greet G w [.ref a0, .int x1, .int x2] K X 11 309 := by
  refine vx_ofW (cc := cX1_greet) (maxL := 3) (ret := (Option.some Jvm.ClassFile.FieldType.int)) (by decide +kernel) rfl ?_
  intro p e s m args below meth c s₁ B hml hex hv
  refine hx_in (own := RX1) (av := [.ref a0, .int x1, .int x2]) (vl := [(0, va_rf (some a0)), (1, .int x1), (2, .int x2)]) rfl rfl (Nat.le_of_ble_eq_true rfl) rfl B hml hv ?_
  intro C0 hU hH hr hlocks hin ls hl
  have hx := C0.1
  have hb := C0.2.1
  have hts := C0.2.2.2.2
  refine lv_iload_n hx hb dX1_greet_0 rfl (lv_at hl 1 rfl) ?_
  refine lv_iload_n hx hb dX1_greet_1 rfl (lv_at hl 2 rfl) ?_
  refine hx_xSv C0 hU hH (As := [.int x1, .int x2]) (wk_X1_checkPeer l hst h) (va_cwS 2 hts (lw_S q753 q754 q60 q755) rfl rfl rfl (by decide +kernel) ⟨Nat.le_of_ble_eq_true rfl, Nat.le_of_ble_eq_true rfl⟩) rfl hl.1 rfl (Nat.le_of_ble_eq_true rfl) dX1_greet_2 ⟨Nat.le_of_ble_eq_true rfl, Nat.le_of_ble_eq_true rfl⟩ (fun E ce q9 w H locs hH hXE h1 h2 h3 => hx_xout hH hXE h1 h2 h3 hex hlocks (Nat.le_of_ble_eq_true rfl) (Nat.le_of_ble_eq_true rfl)) (fun w H locs hH h => ?_)
  refine hx_aload_n C0 dX1_greet_5 rfl (lv_at hl 0 rfl) ?_
  refine hx_aload_n C0 dX1_greet_6 rfl (lv_at hl 0 rfl) ?_
  refine hx_gR C0 hU hH (ci := 0) rfl in_X1 6 (by decide) q269 (fun _ h9 => h9) h dX1_greet_7 (fun r_1 h => ?_)
  refine lv_iload_n hx hb dX1_greet_10 rfl (lv_at hl 1 rfl) ?_
  obtain ⟨b_2, rfl, h9⟩ := h
  have h := h9
  clear h9
  refine hx_aR C0 hU hH h dX1_greet_11 (fun r_3 h => ?_)
  refine lv_iload_n hx hb dX1_greet_12 rfl (lv_at hl 2 rfl) ?_
  obtain ⟨b_4, rfl, h9⟩ := h
  have h := h9
  clear h9
  refine hx_aR C0 hU hH h dX1_greet_13 (fun r_5 h => ?_)
  obtain ⟨b_6, rfl, h9⟩ := h
  have h := h9
  clear h9
  obtain ⟨ho, h⟩ := h
  refine hx_Vi C0 hU hH (As := [va_rf (some b_6)]) (wk_X1_isFresh l h) (cwV 1 hts (lw_V q681 q683 qs15 q60 q684) rfl rfl rfl (by decide +kernel) ⟨Nat.le_of_ble_eq_true rfl, Nat.le_of_ble_eq_true rfl⟩) (hx_recv hU hH (ci := 0) rfl ho) rfl hl.1 rfl (Nat.le_of_ble_eq_true rfl) dX1_greet_14 ⟨Nat.le_of_ble_eq_true rfl, Nat.le_of_ble_eq_true rfl⟩ (fun i_7 w H locs hH h => ?_)
  refine lv_if_eq hx hb dX1_greet_17 (tgt := 30) (by decide) (fun c_8 => ?_) (fun c_8 => ?_)
  · have h := h.1 c_8
    refine hx_aload_n C0 dX1_greet_30 rfl (lv_at hl 0 rfl) ?_
    refine lv_iload_n hx hb dX1_greet_31 rfl (lv_at hl 1 rfl) ?_
    refine lv_iload_n hx hb dX1_greet_32 rfl (lv_at hl 2 rfl) ?_
    obtain ⟨ho, h⟩ := h
    refine hx_Vv C0 hU hH (As := [.int x1, .int x2]) (wk_X1_sendHello l h) (cwV 2 hts (lw_V q685 q687 qs16 q60 q688) rfl rfl rfl (by decide +kernel) ⟨Nat.le_of_ble_eq_true rfl, Nat.le_of_ble_eq_true rfl⟩) (hx_recv hU hH (ci := 0) rfl ho) rfl hl.1 rfl (Nat.le_of_ble_eq_true rfl) dX1_greet_33 ⟨Nat.le_of_ble_eq_true rfl, Nat.le_of_ble_eq_true rfl⟩ (fun w H locs hH h => ?_)
    refine hx_aload_n C0 dX1_greet_36 rfl (lv_at hl 0 rfl) ?_
    refine hx_gR C0 hU hH (ci := 0) rfl in_X1 6 (by decide) q269 (fun _ h9 => h9) h dX1_greet_37 (fun r_9 h => ?_)
    refine lv_iload_n hx hb dX1_greet_40 rfl (lv_at hl 1 rfl) ?_
    obtain ⟨b_10, rfl, h9⟩ := h
    have h := h9
    clear h9
    refine hx_aR C0 hU hH h dX1_greet_41 (fun r_11 h => ?_)
    refine lv_iload_n hx hb dX1_greet_42 rfl (lv_at hl 2 rfl) ?_
    obtain ⟨b_12, rfl, h9⟩ := h
    have h := h9
    clear h9
    refine hx_aR C0 hU hH h dX1_greet_43 (fun r_13 h => ?_)
    obtain ⟨b_14, rfl, h9⟩ := h
    have h := h9
    clear h9
    refine hx_gRN C0 hU hH (ci := 2) rfl in_X3 4 (by decide) q231 (fun _ h9 => h9) h dX1_greet_44 (fun r_15 h => ?_)
    obtain ⟨b_16, rfl, h9⟩ := h
    have h := h9
    clear h9
    refine hx_gIN C0 hU hH (ci := 5) rfl in_X6 0 (by decide) q718 (fun _ h9 => h9) h dX1_greet_47 (fun i_17 h => ?_)
    exact hx_xreti C0 hH hr hlocks h (Nat.le_of_ble_eq_true rfl) (Nat.le_of_ble_eq_true rfl) dX1_greet_50
  · have h := h.2 c_8
    exact hx_throw C0 hU hH hst (text := "fresh") (cls := eIS) (names := hx_names) hl.1 rfl hx_names_fit q522 q76 q764 hat_eIS good_eIS_63 dX1_greet_20 dX1_greet_23 dX1_greet_24 dX1_greet_26 dX1_greet_29 hex hlocks h (Nat.le_of_ble_eq_true rfl) (Nat.le_of_ble_eq_true rfl) (Nat.le_of_ble_eq_true rfl) (Nat.le_of_ble_eq_true rfl) (Nat.le_of_ble_eq_true rfl) (Nat.le_of_ble_eq_true rfl)
def wp_X1_checkLetter_b15 (K : Hp → Prop) (X : Hp → String → Prop)  (w : Hp)  : Prop :=
  X w eIO
def wp_X1_checkLetter (w : Hp) (a0 : Nat) (x1 : Int32) (X : Hp → String → Prop) (K : Hp → Prop) : Prop :=
  br (x1 < 0) (wp_X1_checkLetter_b15 K X w) (gR w a0 0 7 fun r_2 => dR r_2 fun b_3 => isO w b_3 7 <| wp_J2_size w b_3 fun w i_4 => br (x1 < i_4) (K w) (wp_X1_checkLetter_b15 K X w))
abbrev rm_X1_checkLetter : Room := { frames := 6, cells := 1, slots := 6, locals := 82 }
abbrev ws9_X1_checkLetter : List Cond := ws_ yX1_checkLetter cX1_checkLetter 2 none
abbrev Q9_X1_checkLetter (below : List Frame) (args : Array Value) (s : State) (G : hG) (K : Hp → Prop) (X : Hp → String → Prop) : State → Prop := vx_MQ below (hx_Qv G K) (hx_XC G X) args s 1 6 (hx_A G)
set_option maxHeartbeats 4000000 in
set_option maxRecDepth 100000 in
theorem wk_X1_checkLetter (l : Launch) (hst : l.stackTraces = false) {G : hG} {w : Hp} {a0 : Nat} {x1 : Int32} {K : Hp → Prop} {X : Hp → String → Prop} (h : wp_X1_checkLetter w a0 x1 X K) : hx_xMv l yX1_checkLetter (ws9_X1_checkLetter) rm_X1_checkLetter G w [.ref a0, .int x1] K X 1 6 := by
  refine vx_ofW (cc := cX1_checkLetter) (maxL := 2) (ret := none) (by decide +kernel) rfl ?_
  intro p e s m args below meth c s₁ B hml hex hv
  refine hx_in (own := RX1) (av := [.ref a0, .int x1]) (vl := [(0, va_rf (some a0)), (1, .int x1)]) rfl rfl (Nat.le_of_ble_eq_true rfl) rfl B hml hv ?_
  intro C0 hU hH hr hlocks hin ls hl
  have hx := C0.1
  have hb := C0.2.1
  have hts := C0.2.2.2.2
  have b15 : ∀ (w : Hp) , wp_X1_checkLetter_b15 K X  w  → ∀ (H : Heap) (locs : List Loc) (ls : Array Slot), hx_H G w s H locs → lv_has ls 2 [] → W p l e (headSpec (ws9_X1_checkLetter) rm_X1_checkLetter).room s m args below meth c H locs (0) (0) (Q9_X1_checkLetter below args s G K X) (F0 m 15 ls []) := by
    intro w  h H locs ls hH hl
    exact hx_throwW C0 hU hH hst (text := "letter") (cls := eIO) (names := hx_names) hl.1 rfl hx_names_fit q572 q77 q776 hat_eIO good_eIO_259 dX1_checkLetter_15 dX1_checkLetter_18 dX1_checkLetter_19 dX1_checkLetter_22 dX1_checkLetter_25 hex hlocks h (Nat.le_of_ble_eq_true rfl) (Nat.le_of_ble_eq_true rfl) (Nat.le_of_ble_eq_true rfl) (Nat.le_of_ble_eq_true rfl) (Nat.le_of_ble_eq_true rfl) (Nat.le_of_ble_eq_true rfl)
  refine lv_iload_n hx hb dX1_checkLetter_0 rfl (lv_at hl 1 rfl) ?_
  refine lv_if_lt hx hb dX1_checkLetter_1 (tgt := 15) (by decide) (fun c_1 => ?_) (fun c_1 => ?_)
  · have h := h.1 c_1
    refine W.widen (k := 0) (n := 0) (Nat.le_of_ble_eq_true rfl) (Nat.le_of_ble_eq_true rfl) ?_
    exact b15 _  h _ _ _ hH (lv_sub hl [] rfl)
  · have h := h.2 c_1
    refine lv_iload_n hx hb dX1_checkLetter_4 rfl (lv_at hl 1 rfl) ?_
    refine hx_aload_n C0 dX1_checkLetter_5 rfl (lv_at hl 0 rfl) ?_
    refine hx_gR C0 hU hH (ci := 0) rfl in_X1 7 (by decide) q270 (fun _ h9 => h9) h dX1_checkLetter_6 (fun r_2 h => ?_)
    obtain ⟨b_3, rfl, h9⟩ := h
    have h := h9
    clear h9
    obtain ⟨ho, h⟩ := h
    refine hx_Vi C0 hU hH (As := []) (wk_J2_size l h) (cwV 0 hts (lw_V q302 q303 q304 q63 q305) rfl rfl rfl (by decide +kernel) ⟨Nat.le_of_ble_eq_true rfl, Nat.le_of_ble_eq_true rfl⟩) (hx_recv hU hH (ci := 7) rfl ho) rfl hl.1 rfl (Nat.le_of_ble_eq_true rfl) dX1_checkLetter_9 ⟨Nat.le_of_ble_eq_true rfl, Nat.le_of_ble_eq_true rfl⟩ (fun i_4 w H locs hH h => ?_)
    refine lv_icmp_lt hx hb dX1_checkLetter_12 (tgt := 26) (by decide) (fun c_5 => ?_) (fun c_5 => ?_)
    · have h := h.1 c_5
      exact hx_xretv C0 hH hr hlocks h (Nat.le_of_ble_eq_true rfl) (Nat.le_of_ble_eq_true rfl) dX1_checkLetter_26
    · have h := h.2 c_5
      refine W.widen (k := 0) (n := 0) (Nat.le_of_ble_eq_true rfl) (Nat.le_of_ble_eq_true rfl) ?_
      exact b15 _  h _ _ _ hH (lv_sub hl [] rfl)
def wp_X1_flightTo_b45 (K : Hp → Int32 → Prop) (bk2 : Hp → Nat → Int32 → Int32 → Int32 → Prop) (w : Hp) (a0 : Nat) (x1 : Int32) (x2 : Int32) (x3 : Int32) : Prop :=
  nm (x3 + 1) fun i_1 => bk2 w a0 x1 x2 i_1
def wp_X1_flightTo_b27 (K : Hp → Int32 → Prop) (bk2 : Hp → Nat → Int32 → Int32 → Int32 → Prop) (w : Hp) (a0 : Nat) (x1 : Int32) (x2 : Int32) (x3 : Int32) (rt0 : Option Nat) : Prop :=
  br (rt0 = none) (wp_X1_flightTo_b45 K bk2 w a0 x1 x2 x3) (dR rt0 fun b_2 => gI w b_2 5 0 fun i_3 => br (i_3 = x2) (K w x3) (wp_X1_flightTo_b45 K bk2 w a0 x1 x2 x3))
def wp_X1_flightTo_s2 (K : Hp → Int32 → Prop)  (bk2 : Hp → Nat → Int32 → Int32 → Int32 → Prop) (w : Hp) (a0 : Nat) (x1 : Int32) (x2 : Int32) (x3 : Int32) : Prop :=
  br ((3 : Int32) ≤ x3) (K w (-1 : Int32)) (br (x3 = x1) (wp_X1_flightTo_b27 K bk2 w a0 x1 x2 x3 none) (gR w a0 0 6 fun r_3 => dR r_3 fun b_4 => aR w b_4 x1 fun r_5 => dR r_5 fun b_6 => aR w b_6 x3 fun r_7 => dR r_7 fun b_8 => gR w b_8 2 4 fun r_9 => wp_X1_flightTo_b27 K bk2 w a0 x1 x2 x3 r_9))
def wp_X1_flightTo_l2 (K : Hp → Int32 → Prop)  : ((Hp × Nat × Int32 × Int32 × Int32) → Prop) → (Hp × Nat × Int32 × Int32 × Int32) → Prop := fun bk q => wp_X1_flightTo_s2 K  (fun w a0 x1 x2 x3 => bk (w, a0, x1, x2, x3)) q.1 q.2.1 q.2.2.1 q.2.2.2.1 q.2.2.2.2
def wp_X1_flightTo_b2 (K : Hp → Int32 → Prop)  (w : Hp) (a0 : Nat) (x1 : Int32) (x2 : Int32) (x3 : Int32) : Prop := lp (wp_X1_flightTo_l2 K ) (w, a0, x1, x2, x3)
def wp_X1_flightTo (w : Hp) (a0 : Nat) (x1 : Int32) (x2 : Int32) (K : Hp → Int32 → Prop) : Prop :=
  wp_X1_flightTo_b2 K w a0 x1 x2 (0 : Int32)
abbrev rm_X1_flightTo : Room := { frames := 0, cells := 0, slots := 0, locals := 0 }
abbrev ws9_X1_flightTo : List Cond := ws_ yX1_flightTo cX1_flightTo 5 (Option.some Jvm.ClassFile.FieldType.int)
abbrev Q9_X1_flightTo (below : List Frame) (args : Array Value) (s : State) (G : hG) (K : Hp → Int32 → Prop) : State → Prop := MQ below (hx_Qi G K) args s 0 0 (hx_A G)
set_option maxHeartbeats 4000000 in
set_option maxRecDepth 100000 in
theorem wk_X1_flightTo (l : Launch) {G : hG} {w : Hp} {a0 : Nat} {x1 : Int32} {x2 : Int32} {K : Hp → Int32 → Prop} (h : wp_X1_flightTo w a0 x1 x2 K) : hx_Mi l yX1_flightTo (ws9_X1_flightTo) rm_X1_flightTo G w [.ref a0, .int x1, .int x2] K 0 0 := by
  refine Met.ofW (cc := cX1_flightTo) (maxL := 5) (ret := (Option.some Jvm.ClassFile.FieldType.int)) (by decide +kernel) rfl ?_
  intro p e s m args below meth c s₁ B hml hv
  refine hx_in (own := RX1) (av := [.ref a0, .int x1, .int x2]) (vl := [(0, va_rf (some a0)), (1, .int x1), (2, .int x2)]) rfl rfl (Nat.le_of_ble_eq_true rfl) rfl B hml hv ?_
  intro C0 hU hH hr hlocks hin ls hl
  have hx := C0.1
  have hb := C0.2.1
  have hts := C0.2.2.2.2
  have L2 : ∀ (n2 : Nat) (w : Hp) (a0 : Nat) (x1 : Int32) (x2 : Int32) (x3 : Int32), lpN (wp_X1_flightTo_l2 K ) n2 (w, a0, x1, x2, x3) → ∀ (H : Heap) (locs : List Loc) (ls : Array Slot), hx_H G w s H locs → lv_has ls 5 [(0, va_rf (some a0)), (1, .int x1), (2, .int x2), (3, .int x3)] → W p l e (headSpec (ws9_X1_flightTo) rm_X1_flightTo).room s m args below meth c H locs (0) (0) (Q9_X1_flightTo below args s G K) (F0 m 2 ls []) := by
    intro n2
    induction n2 with
    | zero => intro w a0 x1 x2 x3 h; exact h.elim
    | succ n2 ih2 =>
      intro w a0 x1 x2 x3 h H locs ls hH hl
      have h : wp_X1_flightTo_s2 K  (fun w a0 x1 x2 x3 => lpN (wp_X1_flightTo_l2 K ) n2 (w, a0, x1, x2, x3)) w a0 x1 x2 x3 := h
      have b45 : ∀ (w : Hp) (a0 : Nat) (x1 : Int32) (x2 : Int32) (x3 : Int32), wp_X1_flightTo_b45 K (fun w a0 x1 x2 x3 => lpN (wp_X1_flightTo_l2 K ) n2 (w, a0, x1, x2, x3)) w a0 x1 x2 x3 → ∀ (H : Heap) (locs : List Loc) (ls : Array Slot), hx_H G w s H locs → lv_has ls 5 [(0, va_rf (some a0)), (1, .int x1), (2, .int x2), (3, .int x3)] → W p l e (headSpec (ws9_X1_flightTo) rm_X1_flightTo).room s m args below meth c H locs (0) (0) (Q9_X1_flightTo below args s G K) (F0 m 45 ls []) := by
        intro w a0 x1 x2 x3 h H locs ls hH hl
        obtain ⟨i_1, ei_1⟩ : ∃ z, z = x3 + 1 := ⟨_, rfl⟩
        have h := h i_1 ei_1
        refine lv_iinc (k := 3) hx hb dX1_flightTo_45 hl rfl (v := i_1) (by rw [ei_1]; rfl) (by decide) (lv' := [(3, .int i_1), (0, va_rf (some a0)), (1, .int x1), (2, .int x2)]) rfl (fun ls hl => ?_)
        refine lv_goto hx hb dX1_flightTo_48 (tgt := 2) (by decide) ?_
        refine W.widen (k := 0) (n := 0) (Nat.le_of_ble_eq_true rfl) (Nat.le_of_ble_eq_true rfl) ?_
        exact ih2 _ _ _ _ _ h _ _ _ hH (lv_sub hl [1, 2, 3, 0] rfl)
      have b27 : ∀ (w : Hp) (a0 : Nat) (x1 : Int32) (x2 : Int32) (x3 : Int32) (rt0 : Option Nat), wp_X1_flightTo_b27 K (fun w a0 x1 x2 x3 => lpN (wp_X1_flightTo_l2 K ) n2 (w, a0, x1, x2, x3)) w a0 x1 x2 x3 rt0 → ∀ (H : Heap) (locs : List Loc) (ls : Array Slot), hx_H G w s H locs → lv_has ls 5 [(0, va_rf (some a0)), (1, .int x1), (2, .int x2), (3, .int x3)] → W p l e (headSpec (ws9_X1_flightTo) rm_X1_flightTo).room s m args below meth c H locs (0) (0) (Q9_X1_flightTo below args s G K) (F0 m 27 ls [va_rf rt0]) := by
        intro w a0 x1 x2 x3 rt0 h H locs ls hH hl
        refine hx_astore C0 dX1_flightTo_27 hl (by decide) (lv' := [(4, va_rf rt0), (0, va_rf (some a0)), (1, .int x1), (2, .int x2), (3, .int x3)]) rfl (fun ls hl => ?_)
        refine hx_aload C0 dX1_flightTo_29 (lv_at hl 0 rfl) ?_
        refine hx_ifnull C0 dX1_flightTo_31 (tgt := 45) (by decide) (fun c_1 => ?_) (fun c_1 => ?_)
        · have h := h.1 c_1
          refine W.widen (k := 0) (n := 0) (Nat.le_of_ble_eq_true rfl) (Nat.le_of_ble_eq_true rfl) ?_
          exact b45 _ _ _ _ _ h _ _ _ hH (lv_sub hl [1, 2, 3, 4] rfl)
        · have h := h.2 c_1
          refine hx_aload C0 dX1_flightTo_34 (lv_at hl 0 rfl) ?_
          obtain ⟨b_2, rfl, h9⟩ := h
          have h := h9
          clear h9
          refine hx_gIN C0 hU hH (ci := 5) rfl in_X6 0 (by decide) q718 (fun _ h9 => h9) h dX1_flightTo_36 (fun i_3 h => ?_)
          refine lv_iload_n hx hb dX1_flightTo_39 rfl (lv_at hl 3 rfl) ?_
          refine lv_icmp_ne hx hb dX1_flightTo_40 (tgt := 45) (by decide) (fun c_4 => ?_) (fun c_4 => ?_)
          · have h := h.2 c_4
            refine W.widen (k := 0) (n := 0) (Nat.le_of_ble_eq_true rfl) (Nat.le_of_ble_eq_true rfl) ?_
            exact b45 _ _ _ _ _ h _ _ _ hH (lv_sub hl [1, 2, 3, 4] rfl)
          · have h := h.1 c_4
            refine lv_iload_n hx hb dX1_flightTo_43 rfl (lv_at hl 4 rfl) ?_
            exact hx_reti C0 hH hr hlocks h (Nat.le_of_ble_eq_true rfl) (Nat.le_of_ble_eq_true rfl) dX1_flightTo_44
      refine lv_iload_n hx hb dX1_flightTo_2 rfl (lv_at hl 3 rfl) ?_
      refine lv_iconst (v := 3) hx hb dX1_flightTo_3 (by decide) ?_
      refine lv_icmp_ge hx hb dX1_flightTo_4 (tgt := 51) (by decide) (fun c_1 => ?_) (fun c_1 => ?_)
      · have h := h.1 c_1
        refine lv_iconst (v := -1) hx hb dX1_flightTo_51 (by decide) ?_
        exact hx_reti C0 hH hr hlocks h (Nat.le_of_ble_eq_true rfl) (Nat.le_of_ble_eq_true rfl) dX1_flightTo_52
      · have h := h.2 c_1
        refine lv_iload_n hx hb dX1_flightTo_7 rfl (lv_at hl 3 rfl) ?_
        refine lv_iload_n hx hb dX1_flightTo_8 rfl (lv_at hl 1 rfl) ?_
        refine lv_icmp_ne hx hb dX1_flightTo_9 (tgt := 16) (by decide) (fun c_2 => ?_) (fun c_2 => ?_)
        · have h := h.2 c_2
          refine hx_aload_n C0 dX1_flightTo_16 rfl (lv_at hl 0 rfl) ?_
          refine hx_gR C0 hU hH (ci := 0) rfl in_X1 6 (by decide) q269 (fun _ h9 => h9) h dX1_flightTo_17 (fun r_3 h => ?_)
          refine lv_iload_n hx hb dX1_flightTo_20 rfl (lv_at hl 1 rfl) ?_
          obtain ⟨b_4, rfl, h9⟩ := h
          have h := h9
          clear h9
          refine hx_aR C0 hU hH h dX1_flightTo_21 (fun r_5 h => ?_)
          refine lv_iload_n hx hb dX1_flightTo_22 rfl (lv_at hl 3 rfl) ?_
          obtain ⟨b_6, rfl, h9⟩ := h
          have h := h9
          clear h9
          refine hx_aR C0 hU hH h dX1_flightTo_23 (fun r_7 h => ?_)
          obtain ⟨b_8, rfl, h9⟩ := h
          have h := h9
          clear h9
          refine hx_gRN C0 hU hH (ci := 2) rfl in_X3 4 (by decide) q231 (fun _ h9 => h9) h dX1_flightTo_24 (fun r_9 h => ?_)
          refine W.widen (k := 0) (n := 0) (Nat.le_of_ble_eq_true rfl) (Nat.le_of_ble_eq_true rfl) ?_
          exact b27 _ _ _ _ _ _ h _ _ _ hH (lv_sub hl [0, 1, 2, 3] rfl)
        · have h := h.1 c_2
          refine lv_null hx hb dX1_flightTo_12 ?_
          refine lv_goto hx hb dX1_flightTo_13 (tgt := 27) (by decide) ?_
          refine W.widen (k := 0) (n := 0) (Nat.le_of_ble_eq_true rfl) (Nat.le_of_ble_eq_true rfl) ?_
          exact b27 _ _ _ _ _ _ h _ _ _ hH (lv_sub hl [0, 1, 2, 3] rfl)
  refine lv_iconst (v := 0) hx hb dX1_flightTo_0 (by decide) ?_
  refine lv_istore_n hx hb dX1_flightTo_1 rfl hl (by decide) (lv' := [(3, .int (0 : Int32)), (0, va_rf (some a0)), (1, .int x1), (2, .int x2)]) rfl (fun ls hl => ?_)
  obtain ⟨n9, h⟩ := h
  refine W.widen (k := 0) (n := 0) (Nat.le_of_ble_eq_true rfl) (Nat.le_of_ble_eq_true rfl) ?_
  exact L2 n9 _ _ _ _ _ h _ _ _ hH (lv_sub hl [1, 2, 3, 0] rfl)
def wp_X1_receiveCookie (w : Hp) (a0 : Nat) (x1 : Int32) (a2 : Nat) (K : Hp → Int32 → Prop) : Prop :=
  gR w a2 4 4 fun r_1 => dR r_1 fun b_2 => aI w b_2 (0 : Int32) fun i_3 => isO w a0 0 <| wp_X1_flightTo w a0 x1 i_3 fun w i_4 => br (i_4 = (-1 : Int32)) (K w (-1 : Int32)) (gR w a0 0 6 fun r_6 => dR r_6 fun b_7 => aR w b_7 x1 fun r_8 => dR r_8 fun b_9 => aR w b_9 i_4 fun r_10 => aI w b_2 (2 : Int32) fun i_11 => nI_ w (3 : Int32) 3 fun w b_12 => sI w b_12 (0 : Int32) (3 : Int32) fun w => wp_X1_publicNumber w i_4 fun w i_13 => sI w b_12 (1 : Int32) i_13 fun w => dR r_10 fun b_14 => gR w b_14 2 4 fun r_15 => dR r_15 fun b_16 => gI w b_16 5 3 fun i_17 => sI w b_12 (2 : Int32) i_17 fun w => wp_X1_mix w b_12 fun w i_18 => nI_ w (3 : Int32) 3 fun w b_19 => sI w b_19 (0 : Int32) (3 : Int32) fun w => aI w b_2 (0 : Int32) fun i_20 => sI w b_19 (1 : Int32) i_20 fun w => aI w b_2 (1 : Int32) fun i_21 => sI w b_19 (2 : Int32) i_21 fun w => wp_X1_sealOf w i_18 b_19 fun w i_22 => br (i_11 = i_22) (aI w b_2 (1 : Int32) fun i_24 => pV w b_14 2 7 (.int i_24) fun w => gI w a0 0 0 fun i_25 => pV w b_14 2 8 (.int i_25) fun w => K w (3 : Int32)) (K w (-2 : Int32)))
abbrev rm_X1_receiveCookie : Room := { frames := 2, cells := 2, slots := 6, locals := 51 }
abbrev ws9_X1_receiveCookie : List Cond := ws_ yX1_receiveCookie cX1_receiveCookie 6 (Option.some Jvm.ClassFile.FieldType.int)
abbrev Q9_X1_receiveCookie (below : List Frame) (args : Array Value) (s : State) (G : hG) (K : Hp → Int32 → Prop) : State → Prop := MQ below (hx_Qi G K) args s 2 6 (hx_A G)
set_option maxHeartbeats 4000000 in
set_option maxRecDepth 100000 in
theorem wk_X1_receiveCookie (l : Launch) {G : hG} {w : Hp} {a0 : Nat} {x1 : Int32} {a2 : Nat} {K : Hp → Int32 → Prop} (h : wp_X1_receiveCookie w a0 x1 a2 K) : hx_Mi l yX1_receiveCookie (ws9_X1_receiveCookie) rm_X1_receiveCookie G w [.ref a0, .int x1, .ref a2] K 2 6 := by
  refine Met.ofW (cc := cX1_receiveCookie) (maxL := 6) (ret := (Option.some Jvm.ClassFile.FieldType.int)) (by decide +kernel) rfl ?_
  intro p e s m args below meth c s₁ B hml hv
  refine hx_in (own := RX1) (av := [.ref a0, .int x1, .ref a2]) (vl := [(0, va_rf (some a0)), (1, .int x1), (2, va_rf (some a2))]) rfl rfl (Nat.le_of_ble_eq_true rfl) rfl B hml hv ?_
  intro C0 hU hH hr hlocks hin ls hl
  have hx := C0.1
  have hb := C0.2.1
  have hts := C0.2.2.2.2
  refine hx_aload_n C0 dX1_receiveCookie_0 rfl (lv_at hl 2 rfl) ?_
  refine hx_gRN C0 hU hH (ci := 4) rfl in_X5 4 (by decide) q661 (fun _ h9 => h9) h dX1_receiveCookie_1 (fun r_1 h => ?_)
  refine hx_astore_n C0 dX1_receiveCookie_4 rfl hl (by decide) (lv' := [(3, va_rf r_1), (0, va_rf (some a0)), (1, .int x1), (2, va_rf (some a2))]) rfl (fun ls hl => ?_)
  refine hx_aload_n C0 dX1_receiveCookie_5 rfl (lv_at hl 1 rfl) ?_
  refine lv_iload_n hx hb dX1_receiveCookie_6 rfl (lv_at hl 2 rfl) ?_
  refine hx_aload_n C0 dX1_receiveCookie_7 rfl (lv_at hl 0 rfl) ?_
  refine lv_iconst (v := 0) hx hb dX1_receiveCookie_8 (by decide) ?_
  obtain ⟨b_2, rfl, h9⟩ := h
  have h := h9
  clear h9
  refine hx_aI C0 hU hH h dX1_receiveCookie_9 (fun i_3 h => ?_)
  obtain ⟨ho, h⟩ := h
  refine hx_Vi C0 hU hH (As := [.int x1, .int i_3]) (wk_X1_flightTo l h) (cwV 2 hts (lw_V q846 q848 qs26 q60 q849) rfl rfl rfl (by decide +kernel) ⟨Nat.le_of_ble_eq_true rfl, Nat.le_of_ble_eq_true rfl⟩) (hx_recv hU hH (ci := 0) rfl ho) rfl hl.1 rfl (Nat.le_of_ble_eq_true rfl) dX1_receiveCookie_10 ⟨Nat.le_of_ble_eq_true rfl, Nat.le_of_ble_eq_true rfl⟩ (fun i_4 w H locs hH h => ?_)
  refine lv_istore hx hb dX1_receiveCookie_13 hl (by decide) (lv' := [(4, .int i_4), (3, va_rf (some b_2)), (0, va_rf (some a0)), (1, .int x1), (2, va_rf (some a2))]) rfl (fun ls hl => ?_)
  refine lv_iload hx hb dX1_receiveCookie_15 (lv_at hl 0 rfl) ?_
  refine lv_iconst (v := -1) hx hb dX1_receiveCookie_17 (by decide) ?_
  refine lv_icmp_ne hx hb dX1_receiveCookie_18 (tgt := 23) (by decide) (fun c_5 => ?_) (fun c_5 => ?_)
  · have h := h.2 c_5
    refine hx_aload_n C0 dX1_receiveCookie_23 rfl (lv_at hl 2 rfl) ?_
    refine hx_gR C0 hU hH (ci := 0) rfl in_X1 6 (by decide) q269 (fun _ h9 => h9) h dX1_receiveCookie_24 (fun r_6 h => ?_)
    refine lv_iload_n hx hb dX1_receiveCookie_27 rfl (lv_at hl 3 rfl) ?_
    obtain ⟨b_7, rfl, h9⟩ := h
    have h := h9
    clear h9
    refine hx_aR C0 hU hH h dX1_receiveCookie_28 (fun r_8 h => ?_)
    refine lv_iload hx hb dX1_receiveCookie_29 (lv_at hl 0 rfl) ?_
    obtain ⟨b_9, rfl, h9⟩ := h
    have h := h9
    clear h9
    refine hx_aR C0 hU hH h dX1_receiveCookie_31 (fun r_10 h => ?_)
    refine hx_astore C0 dX1_receiveCookie_32 hl (by decide) (lv' := [(5, va_rf r_10), (4, .int i_4), (3, va_rf (some b_2)), (0, va_rf (some a0)), (1, .int x1), (2, va_rf (some a2))]) rfl (fun ls hl => ?_)
    refine hx_aload_n C0 dX1_receiveCookie_34 rfl (lv_at hl 2 rfl) ?_
    refine lv_iconst (v := 2) hx hb dX1_receiveCookie_35 (by decide) ?_
    refine hx_aI C0 hU hH h dX1_receiveCookie_36 (fun i_11 h => ?_)
    refine lv_iconst (v := 3) hx hb dX1_receiveCookie_37 (by decide) ?_
    refine hx_nI C0 hU hH (Nat.le_of_ble_eq_true rfl) (Nat.le_of_ble_eq_true rfl) (Nat.le_of_ble_eq_true rfl) h dX1_receiveCookie_38 (fun b_12 w H locs hH h => ?_)
    refine lv_dup hx hb dX1_receiveCookie_40 rfl ?_
    refine lv_iconst (v := 0) hx hb dX1_receiveCookie_41 (by decide) ?_
    refine lv_iconst (v := 3) hx hb dX1_receiveCookie_42 (by decide) ?_
    refine hx_sI C0 hU hH h dX1_receiveCookie_43 (fun w H locs hH h => ?_)
    refine lv_dup hx hb dX1_receiveCookie_44 rfl ?_
    refine lv_iconst (v := 1) hx hb dX1_receiveCookie_45 (by decide) ?_
    refine lv_iload hx hb dX1_receiveCookie_46 (lv_at hl 1 rfl) ?_
    refine hx_Si C0 hU hH (As := [.int i_4]) (wk_X1_publicNumber l h) (va_cwS 1 hts (lw_S q698 q699 q60 q700) rfl rfl rfl (by decide +kernel) ⟨Nat.le_of_ble_eq_true rfl, Nat.le_of_ble_eq_true rfl⟩) rfl hl.1 rfl (Nat.le_of_ble_eq_true rfl) dX1_receiveCookie_48 ⟨Nat.le_of_ble_eq_true rfl, Nat.le_of_ble_eq_true rfl⟩ (fun i_13 w H locs hH h => ?_)
    refine hx_sI C0 hU hH h dX1_receiveCookie_51 (fun w H locs hH h => ?_)
    refine lv_dup hx hb dX1_receiveCookie_52 rfl ?_
    refine lv_iconst (v := 2) hx hb dX1_receiveCookie_53 (by decide) ?_
    refine hx_aload C0 dX1_receiveCookie_54 (lv_at hl 0 rfl) ?_
    obtain ⟨b_14, rfl, h9⟩ := h
    have h := h9
    clear h9
    refine hx_gRN C0 hU hH (ci := 2) rfl in_X3 4 (by decide) q231 (fun _ h9 => h9) h dX1_receiveCookie_56 (fun r_15 h => ?_)
    obtain ⟨b_16, rfl, h9⟩ := h
    have h := h9
    clear h9
    refine hx_gIN C0 hU hH (ci := 5) rfl in_X6 3 (by decide) q724 (fun _ h9 => h9) h dX1_receiveCookie_59 (fun i_17 h => ?_)
    refine hx_sI C0 hU hH h dX1_receiveCookie_62 (fun w H locs hH h => ?_)
    refine hx_Si C0 hU hH (As := [va_rf (some b_12)]) (wk_X1_mix l h) (va_cwS 1 hts (lw_S q704 q705 q60 q706) rfl rfl rfl (by decide +kernel) ⟨Nat.le_of_ble_eq_true rfl, Nat.le_of_ble_eq_true rfl⟩) rfl hl.1 rfl (Nat.le_of_ble_eq_true rfl) dX1_receiveCookie_63 ⟨Nat.le_of_ble_eq_true rfl, Nat.le_of_ble_eq_true rfl⟩ (fun i_18 w H locs hH h => ?_)
    refine lv_iconst (v := 3) hx hb dX1_receiveCookie_66 (by decide) ?_
    refine hx_nI C0 hU hH (Nat.le_of_ble_eq_true rfl) (Nat.le_of_ble_eq_true rfl) (Nat.le_of_ble_eq_true rfl) h dX1_receiveCookie_67 (fun b_19 w H locs hH h => ?_)
    refine lv_dup hx hb dX1_receiveCookie_69 rfl ?_
    refine lv_iconst (v := 0) hx hb dX1_receiveCookie_70 (by decide) ?_
    refine lv_iconst (v := 3) hx hb dX1_receiveCookie_71 (by decide) ?_
    refine hx_sI C0 hU hH h dX1_receiveCookie_72 (fun w H locs hH h => ?_)
    refine lv_dup hx hb dX1_receiveCookie_73 rfl ?_
    refine lv_iconst (v := 1) hx hb dX1_receiveCookie_74 (by decide) ?_
    refine hx_aload_n C0 dX1_receiveCookie_75 rfl (lv_at hl 2 rfl) ?_
    refine lv_iconst (v := 0) hx hb dX1_receiveCookie_76 (by decide) ?_
    refine hx_aI C0 hU hH h dX1_receiveCookie_77 (fun i_20 h => ?_)
    refine hx_sI C0 hU hH h dX1_receiveCookie_78 (fun w H locs hH h => ?_)
    refine lv_dup hx hb dX1_receiveCookie_79 rfl ?_
    refine lv_iconst (v := 2) hx hb dX1_receiveCookie_80 (by decide) ?_
    refine hx_aload_n C0 dX1_receiveCookie_81 rfl (lv_at hl 2 rfl) ?_
    refine lv_iconst (v := 1) hx hb dX1_receiveCookie_82 (by decide) ?_
    refine hx_aI C0 hU hH h dX1_receiveCookie_83 (fun i_21 h => ?_)
    refine hx_sI C0 hU hH h dX1_receiveCookie_84 (fun w H locs hH h => ?_)
    refine hx_Si C0 hU hH (As := [.int i_18, va_rf (some b_19)]) (wk_X1_sealOf l h) (va_cwS 2 hts (lw_S q643 q455 q60 q456) rfl rfl rfl (by decide +kernel) ⟨Nat.le_of_ble_eq_true rfl, Nat.le_of_ble_eq_true rfl⟩) rfl hl.1 rfl (Nat.le_of_ble_eq_true rfl) dX1_receiveCookie_85 ⟨Nat.le_of_ble_eq_true rfl, Nat.le_of_ble_eq_true rfl⟩ (fun i_22 w H locs hH h => ?_)
    refine lv_icmp_eq hx hb dX1_receiveCookie_88 (tgt := 94) (by decide) (fun c_23 => ?_) (fun c_23 => ?_)
    · have h := h.1 c_23
      refine hx_aload C0 dX1_receiveCookie_94 (lv_at hl 0 rfl) ?_
      refine hx_aload_n C0 dX1_receiveCookie_96 rfl (lv_at hl 2 rfl) ?_
      refine lv_iconst (v := 1) hx hb dX1_receiveCookie_97 (by decide) ?_
      refine hx_aI C0 hU hH h dX1_receiveCookie_98 (fun i_24 h => ?_)
      refine hx_pVN C0 hU hH (ci := 2) rfl in_X3 tyX3 tyX3_ok nmX3 7 (by decide) q235 (fun _ h9 => h9) rfl rfl rfl h dX1_receiveCookie_99 (fun w H locs hH h => ?_)
      refine hx_aload C0 dX1_receiveCookie_102 (lv_at hl 0 rfl) ?_
      refine hx_aload_n C0 dX1_receiveCookie_104 rfl (lv_at hl 3 rfl) ?_
      refine hx_gI C0 hU hH (ci := 0) rfl in_X1 0 (by decide) q263 (fun _ h9 => h9) h dX1_receiveCookie_105 (fun i_25 h => ?_)
      refine hx_pVN C0 hU hH (ci := 2) rfl in_X3 tyX3 tyX3_ok nmX3 8 (by decide) q236 (fun _ h9 => h9) rfl rfl rfl h dX1_receiveCookie_108 (fun w H locs hH h => ?_)
      refine lv_iconst (v := 3) hx hb dX1_receiveCookie_111 (by decide) ?_
      exact hx_reti C0 hH hr hlocks h (Nat.le_of_ble_eq_true rfl) (Nat.le_of_ble_eq_true rfl) dX1_receiveCookie_112
    · have h := h.2 c_23
      refine lv_bipush (v := -2) hx hb dX1_receiveCookie_91 (by decide) ?_
      exact hx_reti C0 hH hr hlocks h (Nat.le_of_ble_eq_true rfl) (Nat.le_of_ble_eq_true rfl) dX1_receiveCookie_93
  · have h := h.1 c_5
    refine lv_iconst (v := -1) hx hb dX1_receiveCookie_21 (by decide) ?_
    exact hx_reti C0 hH hr hlocks h (Nat.le_of_ble_eq_true rfl) (Nat.le_of_ble_eq_true rfl) dX1_receiveCookie_22
def wp_X1_flush_s9 (K : Hp → Prop)  (bk9 : Hp → Nat → Int32 → Int32 → Option Nat → Prop) (w : Hp) (a0 : Nat) (x1 : Int32) (x2 : Int32) (r3 : Option Nat) : Prop :=
  dR r3 fun b_1 => gI w b_1 2 10 fun i_2 => br (i_2 ≤ 0) (K w) (gR w b_1 2 2 fun r_4 => isO w a0 0 <| wp_X1_isUsable w a0 r_4 fun w i_5 => br (i_5 = 0) (K w) (isO w b_1 2 <| wp_X3_first w b_1 fun w r_7 => dR r_7 fun b_8 => aI w b_8 (0 : Int32) fun i_9 => aI w b_8 (1 : Int32) fun i_10 => aI w b_8 (2 : Int32) fun i_11 => isO w a0 0 <| wp_X1_sendData w a0 x1 x2 i_9 i_10 i_11 fun w => bk9 w a0 x1 x2 (some b_1)))
def wp_X1_flush_l9 (K : Hp → Prop)  : ((Hp × Nat × Int32 × Int32 × Option Nat) → Prop) → (Hp × Nat × Int32 × Int32 × Option Nat) → Prop := fun bk q => wp_X1_flush_s9 K  (fun w a0 x1 x2 r3 => bk (w, a0, x1, x2, r3)) q.1 q.2.1 q.2.2.1 q.2.2.2.1 q.2.2.2.2
def wp_X1_flush_b9 (K : Hp → Prop)  (w : Hp) (a0 : Nat) (x1 : Int32) (x2 : Int32) (r3 : Option Nat) : Prop := lpN (wp_X1_flush_l9 K ) 5 (w, a0, x1, x2, r3)
def wp_X1_flush (w : Hp) (a0 : Nat) (x1 : Int32) (x2 : Int32) (K : Hp → Prop) : Prop :=
  gR w a0 0 6 fun r_1 => dR r_1 fun b_2 => aR w b_2 x1 fun r_3 => dR r_3 fun b_4 => aR w b_4 x2 fun r_5 => wp_X1_flush_b9 K w a0 x1 x2 r_5
abbrev rm_X1_flush : Room := { frames := 10, cells := 25, slots := 1405, locals := 321 }
abbrev ws9_X1_flush : List Cond := ws_ yX1_flush cX1_flush 5 none
abbrev Q9_X1_flush (below : List Frame) (args : Array Value) (s : State) (G : hG) (K : Hp → Prop) : State → Prop := MQ below (hx_Qv G K) args s 25 1405 (hx_A G)
set_option maxHeartbeats 4000000 in
set_option maxRecDepth 100000 in
theorem wk_X1_flush (l : Launch) {G : hG} {w : Hp} {a0 : Nat} {x1 : Int32} {x2 : Int32} {K : Hp → Prop} (h : wp_X1_flush w a0 x1 x2 K) : hx_Mv l yX1_flush (ws9_X1_flush) rm_X1_flush G w [.ref a0, .int x1, .int x2] K 25 1405 := by
  refine Met.ofW (cc := cX1_flush) (maxL := 5) (ret := none) (by decide +kernel) rfl ?_
  intro p e s m args below meth c s₁ B hml hv
  refine hx_in (own := RX1) (av := [.ref a0, .int x1, .int x2]) (vl := [(0, va_rf (some a0)), (1, .int x1), (2, .int x2)]) rfl rfl (Nat.le_of_ble_eq_true rfl) rfl B hml hv ?_
  intro C0 hU hH hr hlocks hin ls hl
  have hx := C0.1
  have hb := C0.2.1
  have hts := C0.2.2.2.2
  have L9 : ∀ (n9 cl9 sl9 : Nat), cl9 + n9 * 5 ≤ 25 → sl9 + n9 * 281 ≤ 1405 → ∀ (w : Hp) (a0 : Nat) (x1 : Int32) (x2 : Int32) (r3 : Option Nat), lpN (wp_X1_flush_l9 K ) n9 (w, a0, x1, x2, r3) → ∀ (H : Heap) (locs : List Loc) (ls : Array Slot), hx_H G w s H locs → lv_has ls 5 [(0, va_rf (some a0)), (1, .int x1), (2, .int x2), (3, va_rf r3)] → W p l e (headSpec (ws9_X1_flush) rm_X1_flush).room s m args below meth c H locs (cl9 + 0) (sl9 + 0) (Q9_X1_flush below args s G K) (F0 m 9 ls []) := by
    intro n9
    induction n9 with
    | zero => intro cl9 sl9 _ _ w a0 x1 x2 r3 h; exact h.elim
    | succ n9 ih9 =>
      intro cl9 sl9 hcl9 hsl9 w a0 x1 x2 r3 h H locs ls hH hl
      have h : wp_X1_flush_s9 K  (fun w a0 x1 x2 r3 => lpN (wp_X1_flush_l9 K ) n9 (w, a0, x1, x2, r3)) w a0 x1 x2 r3 := h
      refine hx_aload_n C0 dX1_flush_9 rfl (lv_at hl 3 rfl) ?_
      obtain ⟨b_1, rfl, h9⟩ := h
      have h := h9
      clear h9
      refine hx_gIN C0 hU hH (ci := 2) rfl in_X3 10 (by decide) q239 (fun _ h9 => h9) h dX1_flush_10 (fun i_2 h => ?_)
      refine lv_if_le hx hb dX1_flush_13 (tgt := 54) (by decide) (fun c_3 => ?_) (fun c_3 => ?_)
      · have h := h.1 c_3
        exact hx_retv C0 hH hr hlocks h (by omega) (by omega) dX1_flush_54
      · have h := h.2 c_3
        refine hx_aload_n C0 dX1_flush_16 rfl (lv_at hl 0 rfl) ?_
        refine hx_aload_n C0 dX1_flush_17 rfl (lv_at hl 3 rfl) ?_
        refine hx_gRN C0 hU hH (ci := 2) rfl in_X3 2 (by decide) q228 (fun _ h9 => h9) h dX1_flush_18 (fun r_4 h => ?_)
        obtain ⟨ho, h⟩ := h
        refine hx_Vi C0 hU hH (As := [va_rf r_4]) (wk_X1_isUsable l h) (cwV 1 hts (lw_V q635 q637 qs12 q60 q638) rfl rfl rfl (by decide +kernel) ⟨Nat.le_of_ble_eq_true rfl, Nat.le_of_ble_eq_true rfl⟩) (hx_recv hU hH (ci := 0) rfl ho) rfl hl.1 rfl (Nat.le_of_ble_eq_true rfl) dX1_flush_21 ⟨(show _ ≤ 25 by omega), (show _ ≤ 1405 by omega)⟩ (fun i_5 w H locs hH h => ?_)
        refine lv_if_eq hx hb dX1_flush_24 (tgt := 54) (by decide) (fun c_6 => ?_) (fun c_6 => ?_)
        · have h := h.1 c_6
          exact hx_retv C0 hH hr hlocks h (by omega) (by omega) dX1_flush_54
        · have h := h.2 c_6
          refine hx_aload_n C0 dX1_flush_27 rfl (lv_at hl 3 rfl) ?_
          obtain ⟨ho, h⟩ := h
          refine hx_VNq C0 hU hH (As := []) (wk_X3_first l h) ⟨va_cnB 0 hts (lw_meth q745) rfl rfl rfl (hU.2.2.1 _ q854 rfl) (hts _ q70) (by decide +kernel) ⟨Nat.le_of_ble_eq_true rfl, Nat.le_of_ble_eq_true rfl⟩, hts _ q744, hts _ qs19⟩ (hx_recv hU hH (ci := 2) rfl ho) rfl hl.1 rfl (Nat.le_of_ble_eq_true rfl) dX1_flush_28 ⟨(show _ ≤ 25 by omega), (show _ ≤ 1405 by omega)⟩ (fun r_7 w H locs hH h => ?_)
          refine hx_astore C0 dX1_flush_31 hl (by decide) (lv' := [(4, va_rf r_7), (0, va_rf (some a0)), (1, .int x1), (2, .int x2), (3, va_rf (some b_1))]) rfl (fun ls hl => ?_)
          refine hx_aload_n C0 dX1_flush_33 rfl (lv_at hl 1 rfl) ?_
          refine lv_iload_n hx hb dX1_flush_34 rfl (lv_at hl 2 rfl) ?_
          refine lv_iload_n hx hb dX1_flush_35 rfl (lv_at hl 3 rfl) ?_
          refine hx_aload C0 dX1_flush_36 (lv_at hl 0 rfl) ?_
          refine lv_iconst (v := 0) hx hb dX1_flush_38 (by decide) ?_
          obtain ⟨b_8, rfl, h9⟩ := h
          have h := h9
          clear h9
          refine hx_aI C0 hU hH h dX1_flush_39 (fun i_9 h => ?_)
          refine hx_aload C0 dX1_flush_40 (lv_at hl 0 rfl) ?_
          refine lv_iconst (v := 1) hx hb dX1_flush_42 (by decide) ?_
          refine hx_aI C0 hU hH h dX1_flush_43 (fun i_10 h => ?_)
          refine hx_aload C0 dX1_flush_44 (lv_at hl 0 rfl) ?_
          refine lv_iconst (v := 2) hx hb dX1_flush_46 (by decide) ?_
          refine hx_aI C0 hU hH h dX1_flush_47 (fun i_11 h => ?_)
          obtain ⟨ho, h⟩ := h
          refine hx_Vv C0 hU hH (As := [.int x1, .int x2, .int i_9, .int i_10, .int i_11]) (wk_X1_sendData l h) (cwV 5 hts (lw_V q639 q641 qs13 q60 q642) rfl rfl rfl (by decide +kernel) ⟨Nat.le_of_ble_eq_true rfl, Nat.le_of_ble_eq_true rfl⟩) (hx_recv hU hH (ci := 0) rfl ho) rfl hl.1 rfl (Nat.le_of_ble_eq_true rfl) dX1_flush_48 ⟨(show _ ≤ 25 by omega), (show _ ≤ 1405 by omega)⟩ (fun w H locs hH h => ?_)
          refine lv_goto hx hb dX1_flush_51 (tgt := 9) (by decide) ?_
          refine W.widen (k := cl9 + 5) (n := sl9 + 281) (by omega) (by omega) ?_
          exact ih9 _ _ (by omega) (by omega) _ _ _ _ _ h _ _ _ hH (lv_sub hl [1, 2, 3, 4] rfl)
  refine hx_aload_n C0 dX1_flush_0 rfl (lv_at hl 0 rfl) ?_
  refine hx_gR C0 hU hH (ci := 0) rfl in_X1 6 (by decide) q269 (fun _ h9 => h9) h dX1_flush_1 (fun r_1 h => ?_)
  refine lv_iload_n hx hb dX1_flush_4 rfl (lv_at hl 1 rfl) ?_
  obtain ⟨b_2, rfl, h9⟩ := h
  have h := h9
  clear h9
  refine hx_aR C0 hU hH h dX1_flush_5 (fun r_3 h => ?_)
  refine lv_iload_n hx hb dX1_flush_6 rfl (lv_at hl 2 rfl) ?_
  obtain ⟨b_4, rfl, h9⟩ := h
  have h := h9
  clear h9
  refine hx_aR C0 hU hH h dX1_flush_7 (fun r_5 h => ?_)
  refine hx_astore_n C0 dX1_flush_8 rfl hl (by decide) (lv' := [(3, va_rf r_5), (0, va_rf (some a0)), (1, .int x1), (2, .int x2)]) rfl (fun ls hl => ?_)
  refine W.widen (k := 0) (n := 0) (Nat.le_of_ble_eq_true rfl) (Nat.le_of_ble_eq_true rfl) ?_
  exact L9 5 (0) (0) (Nat.le_of_ble_eq_true rfl) (Nat.le_of_ble_eq_true rfl) _ _ _ _ _ h _ _ _ hH (lv_sub hl [1, 2, 3, 0] rfl)
def wp_X1_receiveBy_b160 (K : Hp → Int32 → Prop)  (w : Hp) (a0 : Nat) (x1 : Int32) (x2 : Int32) (a6 : Nat) : Prop :=
  aI w a6 (2 : Int32) fun i_1 => br (i_1 = (-1 : Int32)) (K w (2 : Int32)) (gR w a0 0 5 fun r_3 => dR r_3 fun b_4 => aR w b_4 x1 fun r_5 => aI w a6 (2 : Int32) fun i_6 => dR r_5 fun b_7 => isO w b_7 1 <| wp_X2_route w b_7 i_6 fun w i_8 => br (i_8 = x2) (gR w a0 0 8 fun r_10 => dR r_10 fun b_11 => isO w b_11 7 <| wp_J2_get w b_11 x1 fun w r_12 => ckO w r_12 7 <| nI_ w (4 : Int32) 4 fun w b_13 => sI w b_13 (0 : Int32) x2 fun w => aI w a6 (2 : Int32) fun i_14 => sI w b_13 (1 : Int32) i_14 fun w => aI w a6 (3 : Int32) fun i_15 => sI w b_13 (2 : Int32) i_15 fun w => aI w a6 (4 : Int32) fun i_16 => sI w b_13 (3 : Int32) i_16 fun w => dR r_12 fun b_17 => isO w b_17 7 <| wp_J2_add w b_17 b_13 fun w i_18 => K w (1 : Int32)) (K w (-5 : Int32)))
def wp_X1_receiveBy (w : Hp) (a0 : Nat) (x1 : Int32) (x2 : Int32) (x3 : Int32) (a4 : Nat) (a5 : Nat) (K : Hp → Int32 → Prop) : Prop :=
  gR w a5 4 4 fun r_1 => isO w a0 0 <| wp_X1_age w a0 a4 fun w i_2 => br (i_2 < (30 : Int32)) (dR r_1 fun b_4 => aI w b_4 (5 : Int32) fun i_5 => gI w a4 6 4 fun i_6 => nI_ w (6 : Int32) 6 fun w b_7 => sI w b_7 (0 : Int32) (4 : Int32) fun w => aI w b_4 (0 : Int32) fun i_8 => sI w b_7 (1 : Int32) i_8 fun w => aI w b_4 (1 : Int32) fun i_9 => sI w b_7 (2 : Int32) i_9 fun w => aI w b_4 (2 : Int32) fun i_10 => sI w b_7 (3 : Int32) i_10 fun w => aI w b_4 (3 : Int32) fun i_11 => sI w b_7 (4 : Int32) i_11 fun w => aI w b_4 (4 : Int32) fun i_12 => sI w b_7 (5 : Int32) i_12 fun w => wp_X1_sealOf w i_6 b_7 fun w i_13 => br (i_5 = i_13) (aI w b_4 (1 : Int32) fun i_15 => isO w a4 6 <| wp_X7_mayTake w a4 i_15 fun w i_16 => br (i_16 = 0) (K w (-3 : Int32)) (aI w b_4 (1 : Int32) fun i_18 => isO w a4 6 <| wp_X7_take w a4 i_18 fun w => gR w a0 0 6 fun r_19 => dR r_19 fun b_20 => aR w b_20 x1 fun r_21 => dR r_21 fun b_22 => aR w b_22 x2 fun r_23 => gI w a5 4 0 fun i_24 => dR r_23 fun b_25 => pV w b_25 2 0 (.int i_24) fun w => br (x3 = (2 : Int32)) (gR w b_25 2 2 fun r_27 => pV w b_25 2 1 (va_rf r_27) fun w => pV w b_25 2 2 (va_rf (some a4)) fun w => pV w b_25 2 3 (va_rf none) fun w => isO w a0 0 <| wp_X1_flush w a0 x1 x2 fun w => wp_X1_receiveBy_b160 K w a0 x1 x2 b_4) (wp_X1_receiveBy_b160 K w a0 x1 x2 b_4))) (K w (-2 : Int32))) (K w (-4 : Int32))
abbrev rm_X1_receiveBy : Room := { frames := 11, cells := 28, slots := 1671, locals := 345 }
abbrev ws9_X1_receiveBy : List Cond := ws_ yX1_receiveBy cX1_receiveBy 8 (Option.some Jvm.ClassFile.FieldType.int)
abbrev Q9_X1_receiveBy (below : List Frame) (args : Array Value) (s : State) (G : hG) (K : Hp → Int32 → Prop) : State → Prop := MQ below (hx_Qi G K) args s 28 1671 (hx_A G)
set_option maxHeartbeats 4000000 in
set_option maxRecDepth 100000 in
theorem wk_X1_receiveBy (l : Launch) {G : hG} {w : Hp} {a0 : Nat} {x1 : Int32} {x2 : Int32} {x3 : Int32} {a4 : Nat} {a5 : Nat} {K : Hp → Int32 → Prop} (h : wp_X1_receiveBy w a0 x1 x2 x3 a4 a5 K) : hx_Mi l yX1_receiveBy (ws9_X1_receiveBy) rm_X1_receiveBy G w [.ref a0, .int x1, .int x2, .int x3, .ref a4, .ref a5] K 28 1671 := by
  refine Met.ofW (cc := cX1_receiveBy) (maxL := 8) (ret := (Option.some Jvm.ClassFile.FieldType.int)) (by decide +kernel) rfl ?_
  intro p e s m args below meth c s₁ B hml hv
  refine hx_in (own := RX1) (av := [.ref a0, .int x1, .int x2, .int x3, .ref a4, .ref a5]) (vl := [(0, va_rf (some a0)), (1, .int x1), (2, .int x2), (3, .int x3), (4, va_rf (some a4)), (5, va_rf (some a5))]) rfl rfl (Nat.le_of_ble_eq_true rfl) rfl B hml hv ?_
  intro C0 hU hH hr hlocks hin ls hl
  have hx := C0.1
  have hb := C0.2.1
  have hts := C0.2.2.2.2
  have b160 : ∀ (w : Hp) (a0 : Nat) (x1 : Int32) (x2 : Int32) (a6 : Nat), wp_X1_receiveBy_b160 K  w a0 x1 x2 a6 → ∀ (H : Heap) (locs : List Loc) (ls : Array Slot), hx_H G w s H locs → lv_has ls 8 [(0, va_rf (some a0)), (1, .int x1), (2, .int x2), (6, va_rf (some a6))] → W p l e (headSpec (ws9_X1_receiveBy) rm_X1_receiveBy).room s m args below meth c H locs (26) (1411) (Q9_X1_receiveBy below args s G K) (F0 m 160 ls []) := by
    intro w a0 x1 x2 a6 h H locs ls hH hl
    refine hx_aload C0 dX1_receiveBy_160 (lv_at hl 3 rfl) ?_
    refine lv_iconst (v := 2) hx hb dX1_receiveBy_162 (by decide) ?_
    refine hx_aI C0 hU hH h dX1_receiveBy_163 (fun i_1 h => ?_)
    refine lv_iconst (v := -1) hx hb dX1_receiveBy_164 (by decide) ?_
    refine lv_icmp_ne hx hb dX1_receiveBy_165 (tgt := 170) (by decide) (fun c_2 => ?_) (fun c_2 => ?_)
    · have h := h.2 c_2
      refine hx_aload_n C0 dX1_receiveBy_170 rfl (lv_at hl 0 rfl) ?_
      refine hx_gR C0 hU hH (ci := 0) rfl in_X1 5 (by decide) q268 (fun _ h9 => h9) h dX1_receiveBy_171 (fun r_3 h => ?_)
      refine lv_iload_n hx hb dX1_receiveBy_174 rfl (lv_at hl 1 rfl) ?_
      obtain ⟨b_4, rfl, h9⟩ := h
      have h := h9
      clear h9
      refine hx_aR C0 hU hH h dX1_receiveBy_175 (fun r_5 h => ?_)
      refine hx_aload C0 dX1_receiveBy_176 (lv_at hl 3 rfl) ?_
      refine lv_iconst (v := 2) hx hb dX1_receiveBy_178 (by decide) ?_
      refine hx_aI C0 hU hH h dX1_receiveBy_179 (fun i_6 h => ?_)
      obtain ⟨b_7, rfl, h9⟩ := h
      have h := h9
      clear h9
      obtain ⟨ho, h⟩ := h
      refine hx_VNi C0 hU hH (As := [.int i_6]) (wk_X2_route l h) ⟨va_cnB 1 hts (lw_meth q633) rfl rfl rfl (hU.2.2.1 _ q630 rfl) (hts _ q64) (by decide +kernel) ⟨Nat.le_of_ble_eq_true rfl, Nat.le_of_ble_eq_true rfl⟩, hts _ q632, hts _ qs11⟩ (hx_recv hU hH (ci := 1) rfl ho) rfl hl.1 rfl (Nat.le_of_ble_eq_true rfl) dX1_receiveBy_180 ⟨Nat.le_of_ble_eq_true rfl, Nat.le_of_ble_eq_true rfl⟩ (fun i_8 w H locs hH h => ?_)
      refine lv_iload_n hx hb dX1_receiveBy_183 rfl (lv_at hl 2 rfl) ?_
      refine lv_icmp_eq hx hb dX1_receiveBy_184 (tgt := 190) (by decide) (fun c_9 => ?_) (fun c_9 => ?_)
      · have h := h.1 c_9
        refine hx_aload_n C0 dX1_receiveBy_190 rfl (lv_at hl 0 rfl) ?_
        refine hx_gR C0 hU hH (ci := 0) rfl in_X1 8 (by decide) q271 (fun _ h9 => h9) h dX1_receiveBy_191 (fun r_10 h => ?_)
        refine lv_iload_n hx hb dX1_receiveBy_194 rfl (lv_at hl 1 rfl) ?_
        obtain ⟨b_11, rfl, h9⟩ := h
        have h := h9
        clear h9
        obtain ⟨ho, h⟩ := h
        refine hx_Vq C0 hU hH (As := [.int x1]) (wk_J2_get l h) (cwV 1 hts (lw_V q468 q469 q470 q63 q471) rfl rfl rfl (by decide +kernel) ⟨Nat.le_of_ble_eq_true rfl, Nat.le_of_ble_eq_true rfl⟩) (hx_recv hU hH (ci := 7) rfl ho) rfl hl.1 rfl (Nat.le_of_ble_eq_true rfl) dX1_receiveBy_195 ⟨Nat.le_of_ble_eq_true rfl, Nat.le_of_ble_eq_true rfl⟩ (fun r_12 w H locs hH h => ?_)
        refine hx_ckO C0 hU hH (ci := 7) rfl q101 h dX1_receiveBy_198 (fun h => ?_)
        refine lv_iconst (v := 4) hx hb dX1_receiveBy_201 (by decide) ?_
        refine hx_nI C0 hU hH (Nat.le_of_ble_eq_true rfl) (Nat.le_of_ble_eq_true rfl) (Nat.le_of_ble_eq_true rfl) h dX1_receiveBy_202 (fun b_13 w H locs hH h => ?_)
        refine lv_dup hx hb dX1_receiveBy_204 rfl ?_
        refine lv_iconst (v := 0) hx hb dX1_receiveBy_205 (by decide) ?_
        refine lv_iload_n hx hb dX1_receiveBy_206 rfl (lv_at hl 2 rfl) ?_
        refine hx_sI C0 hU hH h dX1_receiveBy_207 (fun w H locs hH h => ?_)
        refine lv_dup hx hb dX1_receiveBy_208 rfl ?_
        refine lv_iconst (v := 1) hx hb dX1_receiveBy_209 (by decide) ?_
        refine hx_aload C0 dX1_receiveBy_210 (lv_at hl 3 rfl) ?_
        refine lv_iconst (v := 2) hx hb dX1_receiveBy_212 (by decide) ?_
        refine hx_aI C0 hU hH h dX1_receiveBy_213 (fun i_14 h => ?_)
        refine hx_sI C0 hU hH h dX1_receiveBy_214 (fun w H locs hH h => ?_)
        refine lv_dup hx hb dX1_receiveBy_215 rfl ?_
        refine lv_iconst (v := 2) hx hb dX1_receiveBy_216 (by decide) ?_
        refine hx_aload C0 dX1_receiveBy_217 (lv_at hl 3 rfl) ?_
        refine lv_iconst (v := 3) hx hb dX1_receiveBy_219 (by decide) ?_
        refine hx_aI C0 hU hH h dX1_receiveBy_220 (fun i_15 h => ?_)
        refine hx_sI C0 hU hH h dX1_receiveBy_221 (fun w H locs hH h => ?_)
        refine lv_dup hx hb dX1_receiveBy_222 rfl ?_
        refine lv_iconst (v := 3) hx hb dX1_receiveBy_223 (by decide) ?_
        refine hx_aload C0 dX1_receiveBy_224 (lv_at hl 3 rfl) ?_
        refine lv_iconst (v := 4) hx hb dX1_receiveBy_226 (by decide) ?_
        refine hx_aI C0 hU hH h dX1_receiveBy_227 (fun i_16 h => ?_)
        refine hx_sI C0 hU hH h dX1_receiveBy_228 (fun w H locs hH h => ?_)
        obtain ⟨b_17, rfl, h9⟩ := h
        have h := h9
        clear h9
        obtain ⟨ho, h⟩ := h
        refine hx_Vi C0 hU hH (As := [va_rf (some b_13)]) (wk_J2_add l h) (cwV 1 hts (lw_V q154 q155 q156 q63 q157) rfl rfl rfl (by decide +kernel) ⟨Nat.le_of_ble_eq_true rfl, Nat.le_of_ble_eq_true rfl⟩) (hx_recv hU hH (ci := 7) rfl ho) rfl hl.1 rfl (Nat.le_of_ble_eq_true rfl) dX1_receiveBy_229 ⟨Nat.le_of_ble_eq_true rfl, Nat.le_of_ble_eq_true rfl⟩ (fun i_18 w H locs hH h => ?_)
        refine lv_pop hx hb dX1_receiveBy_232 rfl ?_
        refine lv_iconst (v := 1) hx hb dX1_receiveBy_233 (by decide) ?_
        exact hx_reti C0 hH hr hlocks h (Nat.le_of_ble_eq_true rfl) (Nat.le_of_ble_eq_true rfl) dX1_receiveBy_234
      · have h := h.2 c_9
        refine lv_bipush (v := -5) hx hb dX1_receiveBy_187 (by decide) ?_
        exact hx_reti C0 hH hr hlocks h (Nat.le_of_ble_eq_true rfl) (Nat.le_of_ble_eq_true rfl) dX1_receiveBy_189
    · have h := h.1 c_2
      refine lv_iconst (v := 2) hx hb dX1_receiveBy_168 (by decide) ?_
      exact hx_reti C0 hH hr hlocks h (Nat.le_of_ble_eq_true rfl) (Nat.le_of_ble_eq_true rfl) dX1_receiveBy_169
  refine hx_aload C0 dX1_receiveBy_0 (lv_at hl 5 rfl) ?_
  refine hx_gRN C0 hU hH (ci := 4) rfl in_X5 4 (by decide) q661 (fun _ h9 => h9) h dX1_receiveBy_2 (fun r_1 h => ?_)
  refine hx_astore C0 dX1_receiveBy_5 hl (by decide) (lv' := [(6, va_rf r_1), (0, va_rf (some a0)), (1, .int x1), (2, .int x2), (3, .int x3), (4, va_rf (some a4)), (5, va_rf (some a5))]) rfl (fun ls hl => ?_)
  refine hx_aload_n C0 dX1_receiveBy_7 rfl (lv_at hl 1 rfl) ?_
  refine hx_aload C0 dX1_receiveBy_8 (lv_at hl 5 rfl) ?_
  obtain ⟨ho, h⟩ := h
  refine hx_Vi C0 hU hH (As := [va_rf (some a4)]) (wk_X1_age l h) (cwV 1 hts (lw_V q314 q316 qs3 q60 q317) rfl rfl rfl (by decide +kernel) ⟨Nat.le_of_ble_eq_true rfl, Nat.le_of_ble_eq_true rfl⟩) (hx_recv hU hH (ci := 0) rfl ho) rfl hl.1 rfl (Nat.le_of_ble_eq_true rfl) dX1_receiveBy_10 ⟨Nat.le_of_ble_eq_true rfl, Nat.le_of_ble_eq_true rfl⟩ (fun i_2 w H locs hH h => ?_)
  refine lv_bipush (v := 30) hx hb dX1_receiveBy_13 (by decide) ?_
  refine lv_icmp_lt hx hb dX1_receiveBy_15 (tgt := 21) (by decide) (fun c_3 => ?_) (fun c_3 => ?_)
  · have h := h.1 c_3
    refine hx_aload C0 dX1_receiveBy_21 (lv_at hl 0 rfl) ?_
    refine lv_iconst (v := 5) hx hb dX1_receiveBy_23 (by decide) ?_
    obtain ⟨b_4, rfl, h9⟩ := h
    have h := h9
    clear h9
    refine hx_aI C0 hU hH h dX1_receiveBy_24 (fun i_5 h => ?_)
    refine hx_aload C0 dX1_receiveBy_25 (lv_at hl 5 rfl) ?_
    refine hx_gIN C0 hU hH (ci := 6) rfl in_X7 4 (by decide) q811 (fun _ h9 => h9) h dX1_receiveBy_27 (fun i_6 h => ?_)
    refine lv_bipush (v := 6) hx hb dX1_receiveBy_30 (by decide) ?_
    refine hx_nI C0 hU hH (Nat.le_of_ble_eq_true rfl) (Nat.le_of_ble_eq_true rfl) (Nat.le_of_ble_eq_true rfl) h dX1_receiveBy_32 (fun b_7 w H locs hH h => ?_)
    refine lv_dup hx hb dX1_receiveBy_34 rfl ?_
    refine lv_iconst (v := 0) hx hb dX1_receiveBy_35 (by decide) ?_
    refine lv_iconst (v := 4) hx hb dX1_receiveBy_36 (by decide) ?_
    refine hx_sI C0 hU hH h dX1_receiveBy_37 (fun w H locs hH h => ?_)
    refine lv_dup hx hb dX1_receiveBy_38 rfl ?_
    refine lv_iconst (v := 1) hx hb dX1_receiveBy_39 (by decide) ?_
    refine hx_aload C0 dX1_receiveBy_40 (lv_at hl 0 rfl) ?_
    refine lv_iconst (v := 0) hx hb dX1_receiveBy_42 (by decide) ?_
    refine hx_aI C0 hU hH h dX1_receiveBy_43 (fun i_8 h => ?_)
    refine hx_sI C0 hU hH h dX1_receiveBy_44 (fun w H locs hH h => ?_)
    refine lv_dup hx hb dX1_receiveBy_45 rfl ?_
    refine lv_iconst (v := 2) hx hb dX1_receiveBy_46 (by decide) ?_
    refine hx_aload C0 dX1_receiveBy_47 (lv_at hl 0 rfl) ?_
    refine lv_iconst (v := 1) hx hb dX1_receiveBy_49 (by decide) ?_
    refine hx_aI C0 hU hH h dX1_receiveBy_50 (fun i_9 h => ?_)
    refine hx_sI C0 hU hH h dX1_receiveBy_51 (fun w H locs hH h => ?_)
    refine lv_dup hx hb dX1_receiveBy_52 rfl ?_
    refine lv_iconst (v := 3) hx hb dX1_receiveBy_53 (by decide) ?_
    refine hx_aload C0 dX1_receiveBy_54 (lv_at hl 0 rfl) ?_
    refine lv_iconst (v := 2) hx hb dX1_receiveBy_56 (by decide) ?_
    refine hx_aI C0 hU hH h dX1_receiveBy_57 (fun i_10 h => ?_)
    refine hx_sI C0 hU hH h dX1_receiveBy_58 (fun w H locs hH h => ?_)
    refine lv_dup hx hb dX1_receiveBy_59 rfl ?_
    refine lv_iconst (v := 4) hx hb dX1_receiveBy_60 (by decide) ?_
    refine hx_aload C0 dX1_receiveBy_61 (lv_at hl 0 rfl) ?_
    refine lv_iconst (v := 3) hx hb dX1_receiveBy_63 (by decide) ?_
    refine hx_aI C0 hU hH h dX1_receiveBy_64 (fun i_11 h => ?_)
    refine hx_sI C0 hU hH h dX1_receiveBy_65 (fun w H locs hH h => ?_)
    refine lv_dup hx hb dX1_receiveBy_66 rfl ?_
    refine lv_iconst (v := 5) hx hb dX1_receiveBy_67 (by decide) ?_
    refine hx_aload C0 dX1_receiveBy_68 (lv_at hl 0 rfl) ?_
    refine lv_iconst (v := 4) hx hb dX1_receiveBy_70 (by decide) ?_
    refine hx_aI C0 hU hH h dX1_receiveBy_71 (fun i_12 h => ?_)
    refine hx_sI C0 hU hH h dX1_receiveBy_72 (fun w H locs hH h => ?_)
    refine hx_Si C0 hU hH (As := [.int i_6, va_rf (some b_7)]) (wk_X1_sealOf l h) (va_cwS 2 hts (lw_S q643 q455 q60 q456) rfl rfl rfl (by decide +kernel) ⟨Nat.le_of_ble_eq_true rfl, Nat.le_of_ble_eq_true rfl⟩) rfl hl.1 rfl (Nat.le_of_ble_eq_true rfl) dX1_receiveBy_73 ⟨Nat.le_of_ble_eq_true rfl, Nat.le_of_ble_eq_true rfl⟩ (fun i_13 w H locs hH h => ?_)
    refine lv_icmp_eq hx hb dX1_receiveBy_76 (tgt := 82) (by decide) (fun c_14 => ?_) (fun c_14 => ?_)
    · have h := h.1 c_14
      refine hx_aload C0 dX1_receiveBy_82 (lv_at hl 5 rfl) ?_
      refine hx_aload C0 dX1_receiveBy_84 (lv_at hl 0 rfl) ?_
      refine lv_iconst (v := 1) hx hb dX1_receiveBy_86 (by decide) ?_
      refine hx_aI C0 hU hH h dX1_receiveBy_87 (fun i_15 h => ?_)
      obtain ⟨ho, h⟩ := h
      refine hx_VNi C0 hU hH (As := [.int i_15]) (wk_X7_mayTake l h) ⟨va_cnB 1 hts (lw_meth q870) rfl rfl rfl (hU.2.2.1 _ q867 rfl) (hts _ q85) (by decide +kernel) ⟨Nat.le_of_ble_eq_true rfl, Nat.le_of_ble_eq_true rfl⟩, hts _ q869, hts _ qs31⟩ (hx_recv hU hH (ci := 6) rfl ho) rfl hl.1 rfl (Nat.le_of_ble_eq_true rfl) dX1_receiveBy_88 ⟨Nat.le_of_ble_eq_true rfl, Nat.le_of_ble_eq_true rfl⟩ (fun i_16 w H locs hH h => ?_)
      refine lv_if_ne hx hb dX1_receiveBy_91 (tgt := 97) (by decide) (fun c_17 => ?_) (fun c_17 => ?_)
      · have h := h.2 c_17
        refine hx_aload C0 dX1_receiveBy_97 (lv_at hl 5 rfl) ?_
        refine hx_aload C0 dX1_receiveBy_99 (lv_at hl 0 rfl) ?_
        refine lv_iconst (v := 1) hx hb dX1_receiveBy_101 (by decide) ?_
        refine hx_aI C0 hU hH h dX1_receiveBy_102 (fun i_18 h => ?_)
        obtain ⟨ho, h⟩ := h
        refine hx_VNv C0 hU hH (As := [.int i_18]) (wk_X7_take l h) ⟨va_cnB 1 hts (lw_meth q874) rfl rfl rfl (hU.2.2.1 _ q871 rfl) (hts _ q85) (by decide +kernel) ⟨Nat.le_of_ble_eq_true rfl, Nat.le_of_ble_eq_true rfl⟩, hts _ q873, hts _ qs32⟩ (hx_recv hU hH (ci := 6) rfl ho) rfl hl.1 rfl (Nat.le_of_ble_eq_true rfl) dX1_receiveBy_103 ⟨Nat.le_of_ble_eq_true rfl, Nat.le_of_ble_eq_true rfl⟩ (fun w H locs hH h => ?_)
        refine hx_aload_n C0 dX1_receiveBy_106 rfl (lv_at hl 1 rfl) ?_
        refine hx_gR C0 hU hH (ci := 0) rfl in_X1 6 (by decide) q269 (fun _ h9 => h9) h dX1_receiveBy_107 (fun r_19 h => ?_)
        refine lv_iload_n hx hb dX1_receiveBy_110 rfl (lv_at hl 2 rfl) ?_
        obtain ⟨b_20, rfl, h9⟩ := h
        have h := h9
        clear h9
        refine hx_aR C0 hU hH h dX1_receiveBy_111 (fun r_21 h => ?_)
        refine lv_iload_n hx hb dX1_receiveBy_112 rfl (lv_at hl 3 rfl) ?_
        obtain ⟨b_22, rfl, h9⟩ := h
        have h := h9
        clear h9
        refine hx_aR C0 hU hH h dX1_receiveBy_113 (fun r_23 h => ?_)
        refine hx_astore C0 dX1_receiveBy_114 hl (by decide) (lv' := [(7, va_rf r_23), (6, va_rf (some b_4)), (0, va_rf (some a0)), (1, .int x1), (2, .int x2), (3, .int x3), (4, va_rf (some a4)), (5, va_rf (some a5))]) rfl (fun ls hl => ?_)
        refine hx_aload C0 dX1_receiveBy_116 (lv_at hl 0 rfl) ?_
        refine hx_aload C0 dX1_receiveBy_118 (lv_at hl 7 rfl) ?_
        refine hx_gIN C0 hU hH (ci := 4) rfl in_X5 0 (by decide) q654 (fun _ h9 => h9) h dX1_receiveBy_120 (fun i_24 h => ?_)
        obtain ⟨b_25, rfl, h9⟩ := h
        have h := h9
        clear h9
        refine hx_pVN C0 hU hH (ci := 2) rfl in_X3 tyX3 tyX3_ok nmX3 0 (by decide) q224 (fun _ h9 => h9) rfl rfl rfl h dX1_receiveBy_123 (fun w H locs hH h => ?_)
        refine lv_iload_n hx hb dX1_receiveBy_126 rfl (lv_at hl 5 rfl) ?_
        refine lv_iconst (v := 2) hx hb dX1_receiveBy_127 (by decide) ?_
        refine lv_icmp_ne hx hb dX1_receiveBy_128 (tgt := 160) (by decide) (fun c_26 => ?_) (fun c_26 => ?_)
        · have h := h.2 c_26
          refine W.widen (k := 26) (n := 1411) (Nat.le_of_ble_eq_true rfl) (Nat.le_of_ble_eq_true rfl) ?_
          exact b160 _ _ _ _ _ h _ _ _ hH (lv_sub hl [2, 3, 4, 1] rfl)
        · have h := h.1 c_26
          refine hx_aload C0 dX1_receiveBy_131 (lv_at hl 0 rfl) ?_
          refine hx_aload C0 dX1_receiveBy_133 (lv_at hl 0 rfl) ?_
          refine hx_gRN C0 hU hH (ci := 2) rfl in_X3 2 (by decide) q228 (fun _ h9 => h9) h dX1_receiveBy_135 (fun r_27 h => ?_)
          refine hx_pVN C0 hU hH (ci := 2) rfl in_X3 tyX3 tyX3_ok nmX3 1 (by decide) q226 (fun _ h9 => h9) rfl (hx_fo _ _).1 (hx_fo _ _).2 h dX1_receiveBy_138 (fun w H locs hH h => ?_)
          refine hx_aload C0 dX1_receiveBy_141 (lv_at hl 0 rfl) ?_
          refine hx_aload C0 dX1_receiveBy_143 (lv_at hl 6 rfl) ?_
          refine hx_pVN C0 hU hH (ci := 2) rfl in_X3 tyX3 tyX3_ok nmX3 2 (by decide) q228 (fun _ h9 => h9) rfl (hx_fo _ _).1 (hx_fo _ _).2 h dX1_receiveBy_145 (fun w H locs hH h => ?_)
          refine hx_aload C0 dX1_receiveBy_148 (lv_at hl 0 rfl) ?_
          refine lv_null hx hb dX1_receiveBy_150 ?_
          refine hx_pVN C0 hU hH (ci := 2) rfl in_X3 tyX3 tyX3_ok nmX3 3 (by decide) q230 (fun _ h9 => h9) rfl (hx_fo _ none).1 (hx_fo _ none).2 h dX1_receiveBy_151 (fun w H locs hH h => ?_)
          refine hx_aload_n C0 dX1_receiveBy_154 rfl (lv_at hl 2 rfl) ?_
          refine lv_iload_n hx hb dX1_receiveBy_155 rfl (lv_at hl 3 rfl) ?_
          refine lv_iload_n hx hb dX1_receiveBy_156 rfl (lv_at hl 4 rfl) ?_
          obtain ⟨ho, h⟩ := h
          refine hx_Vv C0 hU hH (As := [.int x1, .int x2]) (wk_X1_flush l h) (cwV 2 hts (lw_V q850 q852 qs27 q60 q853) rfl rfl rfl (by decide +kernel) ⟨Nat.le_of_ble_eq_true rfl, Nat.le_of_ble_eq_true rfl⟩) (hx_recv hU hH (ci := 0) rfl ho) rfl hl.1 rfl (Nat.le_of_ble_eq_true rfl) dX1_receiveBy_157 ⟨Nat.le_of_ble_eq_true rfl, Nat.le_of_ble_eq_true rfl⟩ (fun w H locs hH h => ?_)
          refine W.widen (k := 26) (n := 1411) (Nat.le_of_ble_eq_true rfl) (Nat.le_of_ble_eq_true rfl) ?_
          exact b160 _ _ _ _ _ h _ _ _ hH (lv_sub hl [2, 3, 4, 1] rfl)
      · have h := h.1 c_17
        refine lv_bipush (v := -3) hx hb dX1_receiveBy_94 (by decide) ?_
        exact hx_reti C0 hH hr hlocks h (Nat.le_of_ble_eq_true rfl) (Nat.le_of_ble_eq_true rfl) dX1_receiveBy_96
    · have h := h.2 c_14
      refine lv_bipush (v := -2) hx hb dX1_receiveBy_79 (by decide) ?_
      exact hx_reti C0 hH hr hlocks h (Nat.le_of_ble_eq_true rfl) (Nat.le_of_ble_eq_true rfl) dX1_receiveBy_81
  · have h := h.2 c_3
    refine lv_bipush (v := -4) hx hb dX1_receiveBy_18 (by decide) ?_
    exact hx_reti C0 hH hr hlocks h (Nat.le_of_ble_eq_true rfl) (Nat.le_of_ble_eq_true rfl) dX1_receiveBy_20
def wp_X1_receiveData_b80 (K : Hp → Int32 → Prop) (bk8 : Hp → Nat → Int32 → Nat → Option Nat → Int32 → Prop) (w : Hp) (a0 : Nat) (x1 : Int32) (a2 : Nat) (r3 : Option Nat) (x4 : Int32) : Prop :=
  nm (x4 + 1) fun i_1 => bk8 w a0 x1 a2 r3 i_1
def wp_X1_receiveData_b74 (K : Hp → Int32 → Prop) (bk8 : Hp → Nat → Int32 → Nat → Option Nat → Int32 → Prop) (bk17 : Hp → Nat → Int32 → Nat → Option Nat → Int32 → Int32 → Prop) (w : Hp) (a0 : Nat) (x1 : Int32) (a2 : Nat) (r3 : Option Nat) (x4 : Int32) (x5 : Int32) : Prop :=
  nm (x5 + 1) fun i_1 => bk17 w a0 x1 a2 r3 x4 i_1
def wp_X1_receiveData_s17 (K : Hp → Int32 → Prop) (bk8 : Hp → Nat → Int32 → Nat → Option Nat → Int32 → Prop) (bk17 : Hp → Nat → Int32 → Nat → Option Nat → Int32 → Int32 → Prop) (w : Hp) (a0 : Nat) (x1 : Int32) (a2 : Nat) (r3 : Option Nat) (x4 : Int32) (x5 : Int32) : Prop :=
  br (x4 = x1) (wp_X1_receiveData_b80 K bk8 w a0 x1 a2 r3 x4) (br ((3 : Int32) ≤ x5) (wp_X1_receiveData_b80 K bk8 w a0 x1 a2 r3 x4) (gR w a0 0 6 fun r_3 => dR r_3 fun b_4 => aR w b_4 x1 fun r_5 => dR r_5 fun b_6 => aR w b_6 x4 fun r_7 => dR r_7 fun b_8 => isO w b_8 2 <| wp_X3_session w b_8 x5 fun w r_9 => br (r_9 = none) (wp_X1_receiveData_b74 K bk8 bk17 w a0 x1 a2 r3 x4 x5) (dR r_9 fun b_11 => gI w b_11 6 0 fun i_12 => dR r3 fun b_13 => aI w b_13 (0 : Int32) fun i_14 => br (i_12 = i_14) (isO w a0 0 <| wp_X1_receiveBy w a0 x1 x4 x5 b_11 a2 fun w i_16 => K w i_16) (wp_X1_receiveData_b74 K bk8 bk17 w a0 x1 a2 (some b_13) x4 x5))))
def wp_X1_receiveData_l17 (K : Hp → Int32 → Prop) (bk8 : Hp → Nat → Int32 → Nat → Option Nat → Int32 → Prop) : ((Hp × Nat × Int32 × Nat × Option Nat × Int32 × Int32) → Prop) → (Hp × Nat × Int32 × Nat × Option Nat × Int32 × Int32) → Prop := fun bk q => wp_X1_receiveData_s17 K bk8 (fun w a0 x1 a2 r3 x4 x5 => bk (w, a0, x1, a2, r3, x4, x5)) q.1 q.2.1 q.2.2.1 q.2.2.2.1 q.2.2.2.2.1 q.2.2.2.2.2.1 q.2.2.2.2.2.2
def wp_X1_receiveData_b17 (K : Hp → Int32 → Prop) (bk8 : Hp → Nat → Int32 → Nat → Option Nat → Int32 → Prop) (w : Hp) (a0 : Nat) (x1 : Int32) (a2 : Nat) (r3 : Option Nat) (x4 : Int32) (x5 : Int32) : Prop := lp (wp_X1_receiveData_l17 K bk8) (w, a0, x1, a2, r3, x4, x5)
def wp_X1_receiveData_s8 (K : Hp → Int32 → Prop)  (bk8 : Hp → Nat → Int32 → Nat → Option Nat → Int32 → Prop) (w : Hp) (a0 : Nat) (x1 : Int32) (a2 : Nat) (r3 : Option Nat) (x4 : Int32) : Prop :=
  br ((3 : Int32) ≤ x4) (K w (-1 : Int32)) (wp_X1_receiveData_b17 K bk8 w a0 x1 a2 r3 x4 (0 : Int32))
def wp_X1_receiveData_l8 (K : Hp → Int32 → Prop)  : ((Hp × Nat × Int32 × Nat × Option Nat × Int32) → Prop) → (Hp × Nat × Int32 × Nat × Option Nat × Int32) → Prop := fun bk q => wp_X1_receiveData_s8 K  (fun w a0 x1 a2 r3 x4 => bk (w, a0, x1, a2, r3, x4)) q.1 q.2.1 q.2.2.1 q.2.2.2.1 q.2.2.2.2.1 q.2.2.2.2.2
def wp_X1_receiveData_b8 (K : Hp → Int32 → Prop)  (w : Hp) (a0 : Nat) (x1 : Int32) (a2 : Nat) (r3 : Option Nat) (x4 : Int32) : Prop := lp (wp_X1_receiveData_l8 K ) (w, a0, x1, a2, r3, x4)
def wp_X1_receiveData (w : Hp) (a0 : Nat) (x1 : Int32) (a2 : Nat) (K : Hp → Int32 → Prop) : Prop :=
  gR w a2 4 4 fun r_1 => wp_X1_receiveData_b8 K w a0 x1 a2 r_1 (0 : Int32)
abbrev rm_X1_receiveData : Room := { frames := 12, cells := 28, slots := 1671, locals := 372 }
abbrev ws9_X1_receiveData : List Cond := ws_ yX1_receiveData cX1_receiveData 7 (Option.some Jvm.ClassFile.FieldType.int)
abbrev Q9_X1_receiveData (below : List Frame) (args : Array Value) (s : State) (G : hG) (K : Hp → Int32 → Prop) : State → Prop := MQ below (hx_Qi G K) args s 28 1671 (hx_A G)
set_option maxHeartbeats 4000000 in
set_option maxRecDepth 100000 in
theorem wk_X1_receiveData (l : Launch) {G : hG} {w : Hp} {a0 : Nat} {x1 : Int32} {a2 : Nat} {K : Hp → Int32 → Prop} (h : wp_X1_receiveData w a0 x1 a2 K) : hx_Mi l yX1_receiveData (ws9_X1_receiveData) rm_X1_receiveData G w [.ref a0, .int x1, .ref a2] K 28 1671 := by
  refine Met.ofW (cc := cX1_receiveData) (maxL := 7) (ret := (Option.some Jvm.ClassFile.FieldType.int)) (by decide +kernel) rfl ?_
  intro p e s m args below meth c s₁ B hml hv
  refine hx_in (own := RX1) (av := [.ref a0, .int x1, .ref a2]) (vl := [(0, va_rf (some a0)), (1, .int x1), (2, va_rf (some a2))]) rfl rfl (Nat.le_of_ble_eq_true rfl) rfl B hml hv ?_
  intro C0 hU hH hr hlocks hin ls hl
  have hx := C0.1
  have hb := C0.2.1
  have hts := C0.2.2.2.2
  have L8 : ∀ (n8 : Nat) (w : Hp) (a0 : Nat) (x1 : Int32) (a2 : Nat) (r3 : Option Nat) (x4 : Int32), lpN (wp_X1_receiveData_l8 K ) n8 (w, a0, x1, a2, r3, x4) → ∀ (H : Heap) (locs : List Loc) (ls : Array Slot), hx_H G w s H locs → lv_has ls 7 [(0, va_rf (some a0)), (1, .int x1), (2, va_rf (some a2)), (3, va_rf r3), (4, .int x4)] → W p l e (headSpec (ws9_X1_receiveData) rm_X1_receiveData).room s m args below meth c H locs (0) (0) (Q9_X1_receiveData below args s G K) (F0 m 8 ls []) := by
    intro n8
    induction n8 with
    | zero => intro w a0 x1 a2 r3 x4 h; exact h.elim
    | succ n8 ih8 =>
      intro w a0 x1 a2 r3 x4 h H locs ls hH hl
      have h : wp_X1_receiveData_s8 K  (fun w a0 x1 a2 r3 x4 => lpN (wp_X1_receiveData_l8 K ) n8 (w, a0, x1, a2, r3, x4)) w a0 x1 a2 r3 x4 := h
      have b80 : ∀ (w : Hp) (a0 : Nat) (x1 : Int32) (a2 : Nat) (r3 : Option Nat) (x4 : Int32), wp_X1_receiveData_b80 K (fun w a0 x1 a2 r3 x4 => lpN (wp_X1_receiveData_l8 K ) n8 (w, a0, x1, a2, r3, x4)) w a0 x1 a2 r3 x4 → ∀ (H : Heap) (locs : List Loc) (ls : Array Slot), hx_H G w s H locs → lv_has ls 7 [(0, va_rf (some a0)), (1, .int x1), (2, va_rf (some a2)), (3, va_rf r3), (4, .int x4)] → W p l e (headSpec (ws9_X1_receiveData) rm_X1_receiveData).room s m args below meth c H locs (0) (0) (Q9_X1_receiveData below args s G K) (F0 m 80 ls []) := by
        intro w a0 x1 a2 r3 x4 h H locs ls hH hl
        obtain ⟨i_1, ei_1⟩ : ∃ z, z = x4 + 1 := ⟨_, rfl⟩
        have h := h i_1 ei_1
        refine lv_iinc (k := 4) hx hb dX1_receiveData_80 hl rfl (v := i_1) (by rw [ei_1]; rfl) (by decide) (lv' := [(4, .int i_1), (0, va_rf (some a0)), (1, .int x1), (2, va_rf (some a2)), (3, va_rf r3)]) (by cases r3 <;> rfl) (fun ls hl => ?_)
        refine lv_goto hx hb dX1_receiveData_83 (tgt := 8) (by decide) ?_
        refine W.widen (k := 0) (n := 0) (Nat.le_of_ble_eq_true rfl) (Nat.le_of_ble_eq_true rfl) ?_
        exact ih8 _ _ _ _ _ _ h _ _ _ hH (lv_sub hl [1, 2, 3, 4, 0] rfl)
      have L17 : ∀ (n17 : Nat) (w : Hp) (a0 : Nat) (x1 : Int32) (a2 : Nat) (r3 : Option Nat) (x4 : Int32) (x5 : Int32), lpN (wp_X1_receiveData_l17 K (fun w a0 x1 a2 r3 x4 => lpN (wp_X1_receiveData_l8 K ) n8 (w, a0, x1, a2, r3, x4))) n17 (w, a0, x1, a2, r3, x4, x5) → ∀ (H : Heap) (locs : List Loc) (ls : Array Slot), hx_H G w s H locs → lv_has ls 7 [(0, va_rf (some a0)), (1, .int x1), (2, va_rf (some a2)), (3, va_rf r3), (4, .int x4), (5, .int x5)] → W p l e (headSpec (ws9_X1_receiveData) rm_X1_receiveData).room s m args below meth c H locs (0) (0) (Q9_X1_receiveData below args s G K) (F0 m 17 ls []) := by
        intro n17
        induction n17 with
        | zero => intro w a0 x1 a2 r3 x4 x5 h; exact h.elim
        | succ n17 ih17 =>
          intro w a0 x1 a2 r3 x4 x5 h H locs ls hH hl
          have h : wp_X1_receiveData_s17 K (fun w a0 x1 a2 r3 x4 => lpN (wp_X1_receiveData_l8 K ) n8 (w, a0, x1, a2, r3, x4)) (fun w a0 x1 a2 r3 x4 x5 => lpN (wp_X1_receiveData_l17 K (fun w a0 x1 a2 r3 x4 => lpN (wp_X1_receiveData_l8 K ) n8 (w, a0, x1, a2, r3, x4))) n17 (w, a0, x1, a2, r3, x4, x5)) w a0 x1 a2 r3 x4 x5 := h
          have b74 : ∀ (w : Hp) (a0 : Nat) (x1 : Int32) (a2 : Nat) (r3 : Option Nat) (x4 : Int32) (x5 : Int32), wp_X1_receiveData_b74 K (fun w a0 x1 a2 r3 x4 => lpN (wp_X1_receiveData_l8 K ) n8 (w, a0, x1, a2, r3, x4)) (fun w a0 x1 a2 r3 x4 x5 => lpN (wp_X1_receiveData_l17 K (fun w a0 x1 a2 r3 x4 => lpN (wp_X1_receiveData_l8 K ) n8 (w, a0, x1, a2, r3, x4))) n17 (w, a0, x1, a2, r3, x4, x5)) w a0 x1 a2 r3 x4 x5 → ∀ (H : Heap) (locs : List Loc) (ls : Array Slot), hx_H G w s H locs → lv_has ls 7 [(0, va_rf (some a0)), (1, .int x1), (2, va_rf (some a2)), (3, va_rf r3), (4, .int x4), (5, .int x5)] → W p l e (headSpec (ws9_X1_receiveData) rm_X1_receiveData).room s m args below meth c H locs (0) (0) (Q9_X1_receiveData below args s G K) (F0 m 74 ls []) := by
            intro w a0 x1 a2 r3 x4 x5 h H locs ls hH hl
            obtain ⟨i_1, ei_1⟩ : ∃ z, z = x5 + 1 := ⟨_, rfl⟩
            have h := h i_1 ei_1
            refine lv_iinc (k := 5) hx hb dX1_receiveData_74 hl rfl (v := i_1) (by rw [ei_1]; rfl) (by decide) (lv' := [(5, .int i_1), (0, va_rf (some a0)), (1, .int x1), (2, va_rf (some a2)), (3, va_rf r3), (4, .int x4)]) rfl (fun ls hl => ?_)
            refine lv_goto hx hb dX1_receiveData_77 (tgt := 17) (by decide) ?_
            refine W.widen (k := 0) (n := 0) (Nat.le_of_ble_eq_true rfl) (Nat.le_of_ble_eq_true rfl) ?_
            exact ih17 _ _ _ _ _ _ _ h _ _ _ hH (lv_sub hl [1, 2, 3, 4, 5, 0] rfl)
          refine lv_iload hx hb dX1_receiveData_17 (lv_at hl 4 rfl) ?_
          refine lv_iload_n hx hb dX1_receiveData_19 rfl (lv_at hl 1 rfl) ?_
          refine lv_icmp_eq hx hb dX1_receiveData_20 (tgt := 80) (by decide) (fun c_1 => ?_) (fun c_1 => ?_)
          · have h := h.1 c_1
            refine W.widen (k := 0) (n := 0) (Nat.le_of_ble_eq_true rfl) (Nat.le_of_ble_eq_true rfl) ?_
            exact b80 _ _ _ _ _ _ h _ _ _ hH (lv_sub hl [0, 1, 2, 3, 4] rfl)
          · have h := h.2 c_1
            refine lv_iload hx hb dX1_receiveData_23 (lv_at hl 5 rfl) ?_
            refine lv_iconst (v := 3) hx hb dX1_receiveData_25 (by decide) ?_
            refine lv_icmp_ge hx hb dX1_receiveData_26 (tgt := 80) (by decide) (fun c_2 => ?_) (fun c_2 => ?_)
            · have h := h.1 c_2
              refine W.widen (k := 0) (n := 0) (Nat.le_of_ble_eq_true rfl) (Nat.le_of_ble_eq_true rfl) ?_
              exact b80 _ _ _ _ _ _ h _ _ _ hH (lv_sub hl [0, 1, 2, 3, 4] rfl)
            · have h := h.2 c_2
              refine hx_aload_n C0 dX1_receiveData_29 rfl (lv_at hl 0 rfl) ?_
              refine hx_gR C0 hU hH (ci := 0) rfl in_X1 6 (by decide) q269 (fun _ h9 => h9) h dX1_receiveData_30 (fun r_3 h => ?_)
              refine lv_iload_n hx hb dX1_receiveData_33 rfl (lv_at hl 1 rfl) ?_
              obtain ⟨b_4, rfl, h9⟩ := h
              have h := h9
              clear h9
              refine hx_aR C0 hU hH h dX1_receiveData_34 (fun r_5 h => ?_)
              refine lv_iload hx hb dX1_receiveData_35 (lv_at hl 4 rfl) ?_
              obtain ⟨b_6, rfl, h9⟩ := h
              have h := h9
              clear h9
              refine hx_aR C0 hU hH h dX1_receiveData_37 (fun r_7 h => ?_)
              refine lv_iload hx hb dX1_receiveData_38 (lv_at hl 5 rfl) ?_
              obtain ⟨b_8, rfl, h9⟩ := h
              have h := h9
              clear h9
              obtain ⟨ho, h⟩ := h
              refine hx_VNq C0 hU hH (As := [.int x5]) (wk_X3_session l h) ⟨va_cnB 1 hts (lw_meth q325) rfl rfl rfl (hU.2.2.1 _ q322 rfl) (hts _ q70) (by decide +kernel) ⟨Nat.le_of_ble_eq_true rfl, Nat.le_of_ble_eq_true rfl⟩, hts _ q324, hts _ qs4⟩ (hx_recv hU hH (ci := 2) rfl ho) rfl hl.1 rfl (Nat.le_of_ble_eq_true rfl) dX1_receiveData_40 ⟨Nat.le_of_ble_eq_true rfl, Nat.le_of_ble_eq_true rfl⟩ (fun r_9 w H locs hH h => ?_)
              refine hx_astore C0 dX1_receiveData_43 hl (by decide) (lv' := [(6, va_rf r_9), (0, va_rf (some a0)), (1, .int x1), (2, va_rf (some a2)), (3, va_rf r3), (4, .int x4), (5, .int x5)]) rfl (fun ls hl => ?_)
              refine hx_aload C0 dX1_receiveData_45 (lv_at hl 0 rfl) ?_
              refine hx_ifnull C0 dX1_receiveData_47 (tgt := 74) (by decide) (fun c_10 => ?_) (fun c_10 => ?_)
              · have h := h.1 c_10
                refine W.widen (k := 0) (n := 0) (Nat.le_of_ble_eq_true rfl) (Nat.le_of_ble_eq_true rfl) ?_
                exact b74 _ _ _ _ _ _ _ h _ _ _ hH (lv_sub hl [1, 2, 3, 4, 5, 6] rfl)
              · have h := h.2 c_10
                refine hx_aload C0 dX1_receiveData_50 (lv_at hl 0 rfl) ?_
                obtain ⟨b_11, rfl, h9⟩ := h
                have h := h9
                clear h9
                refine hx_gIN C0 hU hH (ci := 6) rfl in_X7 0 (by decide) q803 (fun _ h9 => h9) h dX1_receiveData_52 (fun i_12 h => ?_)
                refine hx_aload_n C0 dX1_receiveData_55 rfl (lv_at hl 4 rfl) ?_
                refine lv_iconst (v := 0) hx hb dX1_receiveData_56 (by decide) ?_
                obtain ⟨b_13, rfl, h9⟩ := h
                have h := h9
                clear h9
                refine hx_aI C0 hU hH h dX1_receiveData_57 (fun i_14 h => ?_)
                refine lv_icmp_ne hx hb dX1_receiveData_58 (tgt := 74) (by decide) (fun c_15 => ?_) (fun c_15 => ?_)
                · have h := h.2 c_15
                  refine W.widen (k := 0) (n := 0) (Nat.le_of_ble_eq_true rfl) (Nat.le_of_ble_eq_true rfl) ?_
                  exact b74 _ _ _ _ _ _ _ h _ _ _ hH (lv_sub hl [1, 2, 3, 4, 5, 6] rfl)
                · have h := h.1 c_15
                  refine hx_aload_n C0 dX1_receiveData_61 rfl (lv_at hl 1 rfl) ?_
                  refine lv_iload_n hx hb dX1_receiveData_62 rfl (lv_at hl 2 rfl) ?_
                  refine lv_iload hx hb dX1_receiveData_63 (lv_at hl 5 rfl) ?_
                  refine lv_iload hx hb dX1_receiveData_65 (lv_at hl 6 rfl) ?_
                  refine hx_aload C0 dX1_receiveData_67 (lv_at hl 0 rfl) ?_
                  refine hx_aload_n C0 dX1_receiveData_69 rfl (lv_at hl 3 rfl) ?_
                  obtain ⟨ho, h⟩ := h
                  refine hx_Vi C0 hU hH (As := [.int x1, .int x4, .int x5, va_rf (some b_11), va_rf (some a2)]) (wk_X1_receiveBy l h) (cwV 5 hts (lw_V q863 q865 qs30 q60 q866) rfl rfl rfl (by decide +kernel) ⟨Nat.le_of_ble_eq_true rfl, Nat.le_of_ble_eq_true rfl⟩) (hx_recv hU hH (ci := 0) rfl ho) rfl hl.1 rfl (Nat.le_of_ble_eq_true rfl) dX1_receiveData_70 ⟨Nat.le_of_ble_eq_true rfl, Nat.le_of_ble_eq_true rfl⟩ (fun i_16 w H locs hH h => ?_)
                  exact hx_reti C0 hH hr hlocks h (Nat.le_of_ble_eq_true rfl) (Nat.le_of_ble_eq_true rfl) dX1_receiveData_73
      refine lv_iload hx hb dX1_receiveData_8 (lv_at hl 4 rfl) ?_
      refine lv_iconst (v := 3) hx hb dX1_receiveData_10 (by decide) ?_
      refine lv_icmp_ge hx hb dX1_receiveData_11 (tgt := 86) (by decide) (fun c_1 => ?_) (fun c_1 => ?_)
      · have h := h.1 c_1
        refine lv_iconst (v := -1) hx hb dX1_receiveData_86 (by decide) ?_
        exact hx_reti C0 hH hr hlocks h (Nat.le_of_ble_eq_true rfl) (Nat.le_of_ble_eq_true rfl) dX1_receiveData_87
      · have h := h.2 c_1
        refine lv_iconst (v := 0) hx hb dX1_receiveData_14 (by decide) ?_
        refine lv_istore hx hb dX1_receiveData_15 hl (by decide) (lv' := [(5, .int (0 : Int32)), (0, va_rf (some a0)), (1, .int x1), (2, va_rf (some a2)), (3, va_rf r3), (4, .int x4)]) rfl (fun ls hl => ?_)
        obtain ⟨n9, h⟩ := h
        refine W.widen (k := 0) (n := 0) (Nat.le_of_ble_eq_true rfl) (Nat.le_of_ble_eq_true rfl) ?_
        exact L17 n9 _ _ _ _ _ _ _ h _ _ _ hH (lv_sub hl [1, 2, 3, 4, 5, 0] rfl)
  refine hx_aload_n C0 dX1_receiveData_0 rfl (lv_at hl 2 rfl) ?_
  refine hx_gRN C0 hU hH (ci := 4) rfl in_X5 4 (by decide) q661 (fun _ h9 => h9) h dX1_receiveData_1 (fun r_1 h => ?_)
  refine hx_astore_n C0 dX1_receiveData_4 rfl hl (by decide) (lv' := [(3, va_rf r_1), (0, va_rf (some a0)), (1, .int x1), (2, va_rf (some a2))]) rfl (fun ls hl => ?_)
  refine lv_iconst (v := 0) hx hb dX1_receiveData_5 (by decide) ?_
  refine lv_istore hx hb dX1_receiveData_6 hl (by decide) (lv' := [(4, .int (0 : Int32)), (3, va_rf r_1), (0, va_rf (some a0)), (1, .int x1), (2, va_rf (some a2))]) (by cases r_1 <;> rfl) (fun ls hl => ?_)
  obtain ⟨n9, h⟩ := h
  refine W.widen (k := 0) (n := 0) (Nat.le_of_ble_eq_true rfl) (Nat.le_of_ble_eq_true rfl) ?_
  exact L8 n9 _ _ _ _ _ _ h _ _ _ hH (lv_sub hl [2, 3, 4, 1, 0] rfl)
def wp_X1_cookieOf (w : Hp) (a0 : Nat) (x1 : Int32) (x2 : Int32) (K : Hp → Int32 → Prop) : Prop :=
  nI_ w (4 : Int32) 4 fun w b_1 => sI w b_1 (0 : Int32) (6 : Int32) fun w => wp_X1_secretOf w x1 fun w i_2 => sI w b_1 (1 : Int32) i_2 fun w => gI w a0 0 0 fun i_3 => nm (i_3 / (60 : Int32)) fun i_4 => sI w b_1 (2 : Int32) i_4 fun w => sI w b_1 (3 : Int32) x2 fun w => wp_X1_mix w b_1 fun w i_5 => K w i_5
abbrev rm_X1_cookieOf : Room := { frames := 2, cells := 1, slots := 4, locals := 47 }
abbrev ws9_X1_cookieOf : List Cond := ws_ yX1_cookieOf cX1_cookieOf 3 (Option.some Jvm.ClassFile.FieldType.int)
abbrev Q9_X1_cookieOf (below : List Frame) (args : Array Value) (s : State) (G : hG) (K : Hp → Int32 → Prop) : State → Prop := MQ below (hx_Qi G K) args s 1 4 (hx_A G)
set_option maxHeartbeats 4000000 in
set_option maxRecDepth 100000 in
theorem wk_X1_cookieOf (l : Launch) {G : hG} {w : Hp} {a0 : Nat} {x1 : Int32} {x2 : Int32} {K : Hp → Int32 → Prop} (h : wp_X1_cookieOf w a0 x1 x2 K) : hx_Mi l yX1_cookieOf (ws9_X1_cookieOf) rm_X1_cookieOf G w [.ref a0, .int x1, .int x2] K 1 4 := by
  refine Met.ofW (cc := cX1_cookieOf) (maxL := 3) (ret := (Option.some Jvm.ClassFile.FieldType.int)) (by decide +kernel) rfl ?_
  intro p e s m args below meth c s₁ B hml hv
  refine hx_in (own := RX1) (av := [.ref a0, .int x1, .int x2]) (vl := [(0, va_rf (some a0)), (1, .int x1), (2, .int x2)]) rfl rfl (Nat.le_of_ble_eq_true rfl) rfl B hml hv ?_
  intro C0 hU hH hr hlocks hin ls hl
  have hx := C0.1
  have hb := C0.2.1
  have hts := C0.2.2.2.2
  refine lv_iconst (v := 4) hx hb dX1_cookieOf_0 (by decide) ?_
  refine hx_nI C0 hU hH (Nat.le_of_ble_eq_true rfl) (Nat.le_of_ble_eq_true rfl) (Nat.le_of_ble_eq_true rfl) h dX1_cookieOf_1 (fun b_1 w H locs hH h => ?_)
  refine lv_dup hx hb dX1_cookieOf_3 rfl ?_
  refine lv_iconst (v := 0) hx hb dX1_cookieOf_4 (by decide) ?_
  refine lv_bipush (v := 6) hx hb dX1_cookieOf_5 (by decide) ?_
  refine hx_sI C0 hU hH h dX1_cookieOf_7 (fun w H locs hH h => ?_)
  refine lv_dup hx hb dX1_cookieOf_8 rfl ?_
  refine lv_iconst (v := 1) hx hb dX1_cookieOf_9 (by decide) ?_
  refine lv_iload_n hx hb dX1_cookieOf_10 rfl (lv_at hl 1 rfl) ?_
  refine hx_Si C0 hU hH (As := [.int x1]) (wk_X1_secretOf l h) (va_cwS 1 hts (lw_S q701 q702 q60 q703) rfl rfl rfl (by decide +kernel) ⟨Nat.le_of_ble_eq_true rfl, Nat.le_of_ble_eq_true rfl⟩) rfl hl.1 rfl (Nat.le_of_ble_eq_true rfl) dX1_cookieOf_11 ⟨Nat.le_of_ble_eq_true rfl, Nat.le_of_ble_eq_true rfl⟩ (fun i_2 w H locs hH h => ?_)
  refine hx_sI C0 hU hH h dX1_cookieOf_14 (fun w H locs hH h => ?_)
  refine lv_dup hx hb dX1_cookieOf_15 rfl ?_
  refine lv_iconst (v := 2) hx hb dX1_cookieOf_16 (by decide) ?_
  refine hx_aload_n C0 dX1_cookieOf_17 rfl (lv_at hl 0 rfl) ?_
  refine hx_gI C0 hU hH (ci := 0) rfl in_X1 0 (by decide) q263 (fun _ h9 => h9) h dX1_cookieOf_18 (fun i_3 h => ?_)
  refine lv_bipush (v := 60) hx hb dX1_cookieOf_21 (by decide) ?_
  refine lv_idiv hx hb dX1_cookieOf_23 (by decide) ?_
  refine lv_topi (fun i_4 ei_4 => ?_)
  have h := h i_4 ei_4
  refine hx_sI C0 hU hH h dX1_cookieOf_24 (fun w H locs hH h => ?_)
  refine lv_dup hx hb dX1_cookieOf_25 rfl ?_
  refine lv_iconst (v := 3) hx hb dX1_cookieOf_26 (by decide) ?_
  refine lv_iload_n hx hb dX1_cookieOf_27 rfl (lv_at hl 2 rfl) ?_
  refine hx_sI C0 hU hH h dX1_cookieOf_28 (fun w H locs hH h => ?_)
  refine hx_Si C0 hU hH (As := [va_rf (some b_1)]) (wk_X1_mix l h) (va_cwS 1 hts (lw_S q704 q705 q60 q706) rfl rfl rfl (by decide +kernel) ⟨Nat.le_of_ble_eq_true rfl, Nat.le_of_ble_eq_true rfl⟩) rfl hl.1 rfl (Nat.le_of_ble_eq_true rfl) dX1_cookieOf_29 ⟨Nat.le_of_ble_eq_true rfl, Nat.le_of_ble_eq_true rfl⟩ (fun i_5 w H locs hH h => ?_)
  exact hx_reti C0 hH hr hlocks h (Nat.le_of_ble_eq_true rfl) (Nat.le_of_ble_eq_true rfl) dX1_cookieOf_32
def wp_X1_receiveHello_b173 (K : Hp → Int32 → Prop)  (w : Hp) (a0 : Nat) (x1 : Int32) (a2 : Nat) (a3 : Nat) (x4 : Int32) : Prop :=
  nI_ w (3 : Int32) 3 fun w b_1 => sI w b_1 (0 : Int32) (1 : Int32) fun w => aI w a3 (1 : Int32) fun i_2 => wp_X1_secretOf w x1 fun w i_3 => wp_X1_power w i_2 i_3 fun w i_4 => sI w b_1 (1 : Int32) i_4 fun w => wp_X1_publicNumber w x4 fun w i_5 => wp_X1_secretOf w x1 fun w i_6 => wp_X1_power w i_5 i_6 fun w i_7 => sI w b_1 (2 : Int32) i_7 fun w => wp_X1_mix w b_1 fun w i_8 => aI w a3 (4 : Int32) fun i_9 => nI_ w (5 : Int32) 5 fun w b_10 => sI w b_10 (0 : Int32) (1 : Int32) fun w => aI w a3 (0 : Int32) fun i_11 => sI w b_10 (1 : Int32) i_11 fun w => aI w a3 (1 : Int32) fun i_12 => sI w b_10 (2 : Int32) i_12 fun w => aI w a3 (2 : Int32) fun i_13 => sI w b_10 (3 : Int32) i_13 fun w => aI w a3 (3 : Int32) fun i_14 => sI w b_10 (4 : Int32) i_14 fun w => wp_X1_sealOf w i_8 b_10 fun w i_15 => br (i_9 = i_15) (gR w a0 0 6 fun r_17 => dR r_17 fun b_18 => aR w b_18 x1 fun r_19 => dR r_19 fun b_20 => aR w b_20 x4 fun r_21 => aI w a3 (3 : Int32) fun i_22 => dR r_21 fun b_23 => gI w b_23 2 5 fun i_24 => br (i_24 < i_22) (aI w a3 (3 : Int32) fun i_26 => pV w b_23 2 5 (.int i_26) fun w => gI w a2 4 0 fun i_27 => pV w b_23 2 0 (.int i_27) fun w => gI w a0 0 1 fun i_28 => pV w a0 0 1 (.int (i_28 + (1 : Int32))) fun w => gI w a0 0 1 fun i_29 => wp_X1_drawn w i_29 fun w i_30 => wp_X1_power w (7 : Int32) i_30 fun w i_31 => nI_ w (4 : Int32) 4 fun w b_32 => sI w b_32 (0 : Int32) (4 : Int32) fun w => sI w b_32 (1 : Int32) i_8 fun w => aI w a3 (1 : Int32) fun i_33 => wp_X1_power w i_33 i_30 fun w i_34 => sI w b_32 (2 : Int32) i_34 fun w => wp_X1_publicNumber w x4 fun w i_35 => wp_X1_power w i_35 i_30 fun w i_36 => sI w b_32 (3 : Int32) i_36 fun w => wp_X1_mix w b_32 fun w i_37 => gI w b_23 2 0 fun i_38 => nI_ w (4 : Int32) 4 fun w b_39 => gI w a0 0 1 fun i_40 => sI w b_39 (0 : Int32) i_40 fun w => aI w a3 (0 : Int32) fun i_41 => sI w b_39 (1 : Int32) i_41 fun w => sI w b_39 (2 : Int32) i_31 fun w => nI_ w (4 : Int32) 4 fun w b_42 => sI w b_42 (0 : Int32) (2 : Int32) fun w => gI w a0 0 1 fun i_43 => sI w b_42 (1 : Int32) i_43 fun w => aI w a3 (0 : Int32) fun i_44 => sI w b_42 (2 : Int32) i_44 fun w => sI w b_42 (3 : Int32) i_31 fun w => wp_X1_sealOf w i_37 b_42 fun w i_45 => sI w b_39 (3 : Int32) i_45 fun w => isO w a0 0 <| wp_X1_post w a0 x1 i_38 (2 : Int32) i_37 b_39 fun w => nO w 6 fsX7 fun w b_46 => gI w a0 0 1 fun i_47 => aI w a3 (0 : Int32) fun i_48 => gI w a0 0 0 fun i_49 => nI_ w (3 : Int32) 3 fun w b_50 => sI w b_50 (0 : Int32) (5 : Int32) fun w => sI w b_50 (1 : Int32) i_37 fun w => sI w b_50 (2 : Int32) (1 : Int32) fun w => wp_X1_mix w b_50 fun w i_51 => nI_ w (3 : Int32) 3 fun w b_52 => sI w b_52 (0 : Int32) (5 : Int32) fun w => sI w b_52 (1 : Int32) i_37 fun w => sI w b_52 (2 : Int32) (0 : Int32) fun w => wp_X1_mix w b_52 fun w i_53 => wp_X7_init w b_46 i_47 i_48 i_49 i_51 i_53 (0 : Int32) fun w => pV w b_23 2 3 (va_rf (some b_46)) fun w => K w (3 : Int32)) (K w (-6 : Int32))) (K w (-2 : Int32))
def wp_X1_receiveHello (w : Hp) (a0 : Nat) (x1 : Int32) (a2 : Nat) (K : Hp → Int32 → Prop) : Prop :=
  gR w a2 4 4 fun r_1 => dR r_1 fun b_2 => aI w b_2 (2 : Int32) fun i_3 => nm (i_3 / (10 : Int32)) fun i_4 => aI w b_2 (2 : Int32) fun i_5 => nm (i_5 - i_5 / (10 : Int32) * (10 : Int32)) fun i_6 => br (i_6 = x1) (gR w a0 0 4 fun r_8 => dR r_8 fun b_9 => aZ w b_9 x1 fun i_10 => br (i_10 = 0) (wp_X1_receiveHello_b173 K w a0 x1 a2 b_2 i_4) (gI w a2 4 0 fun i_12 => isO w a0 0 <| wp_X1_cookieOf w a0 x1 i_12 fun w i_13 => aI w b_2 (5 : Int32) fun i_14 => nI_ w (3 : Int32) 3 fun w b_15 => sI w b_15 (0 : Int32) (2 : Int32) fun w => sI w b_15 (1 : Int32) i_13 fun w => aI w b_2 (4 : Int32) fun i_16 => sI w b_15 (2 : Int32) i_16 fun w => wp_X1_mix w b_15 fun w i_17 => br (i_14 = i_17) (wp_X1_receiveHello_b173 K w a0 x1 a2 b_2 i_4) (nI_ w (3 : Int32) 3 fun w b_19 => sI w b_19 (0 : Int32) (3 : Int32) fun w => wp_X1_publicNumber w x1 fun w i_20 => sI w b_19 (1 : Int32) i_20 fun w => aI w b_2 (4 : Int32) fun i_21 => sI w b_19 (2 : Int32) i_21 fun w => wp_X1_mix w b_19 fun w i_22 => nI_ w (3 : Int32) 3 fun w b_23 => sI w b_23 (0 : Int32) (3 : Int32) fun w => aI w b_2 (0 : Int32) fun i_24 => sI w b_23 (1 : Int32) i_24 fun w => sI w b_23 (2 : Int32) i_13 fun w => wp_X1_sealOf w i_22 b_23 fun w i_25 => gI w a2 4 0 fun i_26 => nI_ w (3 : Int32) 3 fun w b_27 => sI w b_27 (0 : Int32) (3 : Int32) fun w => wp_X1_publicNumber w x1 fun w i_28 => sI w b_27 (1 : Int32) i_28 fun w => aI w b_2 (4 : Int32) fun i_29 => sI w b_27 (2 : Int32) i_29 fun w => wp_X1_mix w b_27 fun w i_30 => nI_ w (3 : Int32) 3 fun w b_31 => aI w b_2 (0 : Int32) fun i_32 => sI w b_31 (0 : Int32) i_32 fun w => sI w b_31 (1 : Int32) i_13 fun w => sI w b_31 (2 : Int32) i_25 fun w => isO w a0 0 <| wp_X1_post w a0 x1 i_26 (3 : Int32) i_30 b_31 fun w => K w (-7 : Int32)))) (K w (-1 : Int32))
abbrev rm_X1_receiveHello : Room := { frames := 9, cells := 14, slots := 352, locals := 293 }
abbrev ws9_X1_receiveHello : List Cond := ws_ yX1_receiveHello cX1_receiveHello 10 (Option.some Jvm.ClassFile.FieldType.int)
abbrev Q9_X1_receiveHello (below : List Frame) (args : Array Value) (s : State) (G : hG) (K : Hp → Int32 → Prop) : State → Prop := MQ below (hx_Qi G K) args s 14 352 (hx_A G)
set_option maxHeartbeats 4000000 in
set_option maxRecDepth 100000 in
theorem wk_X1_receiveHello (l : Launch) {G : hG} {w : Hp} {a0 : Nat} {x1 : Int32} {a2 : Nat} {K : Hp → Int32 → Prop} (h : wp_X1_receiveHello w a0 x1 a2 K) : hx_Mi l yX1_receiveHello (ws9_X1_receiveHello) rm_X1_receiveHello G w [.ref a0, .int x1, .ref a2] K 14 352 := by
  refine Met.ofW (cc := cX1_receiveHello) (maxL := 10) (ret := (Option.some Jvm.ClassFile.FieldType.int)) (by decide +kernel) rfl ?_
  intro p e s m args below meth c s₁ B hml hv
  refine hx_in (own := RX1) (av := [.ref a0, .int x1, .ref a2]) (vl := [(0, va_rf (some a0)), (1, .int x1), (2, va_rf (some a2))]) rfl rfl (Nat.le_of_ble_eq_true rfl) rfl B hml hv ?_
  intro C0 hU hH hr hlocks hin ls hl
  have hx := C0.1
  have hb := C0.2.1
  have hts := C0.2.2.2.2
  have b173 : ∀ (w : Hp) (a0 : Nat) (x1 : Int32) (a2 : Nat) (a3 : Nat) (x4 : Int32), wp_X1_receiveHello_b173 K  w a0 x1 a2 a3 x4 → ∀ (H : Heap) (locs : List Loc) (ls : Array Slot), hx_H G w s H locs → lv_has ls 10 [(0, va_rf (some a0)), (1, .int x1), (2, va_rf (some a2)), (3, va_rf (some a3)), (4, .int x4)] → W p l e (headSpec (ws9_X1_receiveHello) rm_X1_receiveHello).room s m args below meth c H locs (2) (7) (Q9_X1_receiveHello below args s G K) (F0 m 173 ls []) := by
    intro w a0 x1 a2 a3 x4 h H locs ls hH hl
    refine lv_iconst (v := 3) hx hb dX1_receiveHello_173 (by decide) ?_
    refine hx_nI C0 hU hH (Nat.le_of_ble_eq_true rfl) (Nat.le_of_ble_eq_true rfl) (Nat.le_of_ble_eq_true rfl) h dX1_receiveHello_174 (fun b_1 w H locs hH h => ?_)
    refine lv_dup hx hb dX1_receiveHello_176 rfl ?_
    refine lv_iconst (v := 0) hx hb dX1_receiveHello_177 (by decide) ?_
    refine lv_iconst (v := 1) hx hb dX1_receiveHello_178 (by decide) ?_
    refine hx_sI C0 hU hH h dX1_receiveHello_179 (fun w H locs hH h => ?_)
    refine lv_dup hx hb dX1_receiveHello_180 rfl ?_
    refine lv_iconst (v := 1) hx hb dX1_receiveHello_181 (by decide) ?_
    refine hx_aload_n C0 dX1_receiveHello_182 rfl (lv_at hl 3 rfl) ?_
    refine lv_iconst (v := 1) hx hb dX1_receiveHello_183 (by decide) ?_
    refine hx_aI C0 hU hH h dX1_receiveHello_184 (fun i_2 h => ?_)
    refine lv_iload_n hx hb dX1_receiveHello_185 rfl (lv_at hl 1 rfl) ?_
    refine hx_Si C0 hU hH (As := [.int x1]) (wk_X1_secretOf l h) (va_cwS 1 hts (lw_S q701 q702 q60 q703) rfl rfl rfl (by decide +kernel) ⟨Nat.le_of_ble_eq_true rfl, Nat.le_of_ble_eq_true rfl⟩) rfl hl.1 rfl (Nat.le_of_ble_eq_true rfl) dX1_receiveHello_186 ⟨Nat.le_of_ble_eq_true rfl, Nat.le_of_ble_eq_true rfl⟩ (fun i_3 w H locs hH h => ?_)
    refine hx_Si C0 hU hH (As := [.int i_2, .int i_3]) (wk_X1_power l h) (va_cwS 2 hts (lw_S q694 q695 q60 q696) rfl rfl rfl (by decide +kernel) ⟨Nat.le_of_ble_eq_true rfl, Nat.le_of_ble_eq_true rfl⟩) rfl hl.1 rfl (Nat.le_of_ble_eq_true rfl) dX1_receiveHello_189 ⟨Nat.le_of_ble_eq_true rfl, Nat.le_of_ble_eq_true rfl⟩ (fun i_4 w H locs hH h => ?_)
    refine hx_sI C0 hU hH h dX1_receiveHello_192 (fun w H locs hH h => ?_)
    refine lv_dup hx hb dX1_receiveHello_193 rfl ?_
    refine lv_iconst (v := 2) hx hb dX1_receiveHello_194 (by decide) ?_
    refine lv_iload hx hb dX1_receiveHello_195 (lv_at hl 4 rfl) ?_
    refine hx_Si C0 hU hH (As := [.int x4]) (wk_X1_publicNumber l h) (va_cwS 1 hts (lw_S q698 q699 q60 q700) rfl rfl rfl (by decide +kernel) ⟨Nat.le_of_ble_eq_true rfl, Nat.le_of_ble_eq_true rfl⟩) rfl hl.1 rfl (Nat.le_of_ble_eq_true rfl) dX1_receiveHello_197 ⟨Nat.le_of_ble_eq_true rfl, Nat.le_of_ble_eq_true rfl⟩ (fun i_5 w H locs hH h => ?_)
    refine lv_iload_n hx hb dX1_receiveHello_200 rfl (lv_at hl 1 rfl) ?_
    refine hx_Si C0 hU hH (As := [.int x1]) (wk_X1_secretOf l h) (va_cwS 1 hts (lw_S q701 q702 q60 q703) rfl rfl rfl (by decide +kernel) ⟨Nat.le_of_ble_eq_true rfl, Nat.le_of_ble_eq_true rfl⟩) rfl hl.1 rfl (Nat.le_of_ble_eq_true rfl) dX1_receiveHello_201 ⟨Nat.le_of_ble_eq_true rfl, Nat.le_of_ble_eq_true rfl⟩ (fun i_6 w H locs hH h => ?_)
    refine hx_Si C0 hU hH (As := [.int i_5, .int i_6]) (wk_X1_power l h) (va_cwS 2 hts (lw_S q694 q695 q60 q696) rfl rfl rfl (by decide +kernel) ⟨Nat.le_of_ble_eq_true rfl, Nat.le_of_ble_eq_true rfl⟩) rfl hl.1 rfl (Nat.le_of_ble_eq_true rfl) dX1_receiveHello_204 ⟨Nat.le_of_ble_eq_true rfl, Nat.le_of_ble_eq_true rfl⟩ (fun i_7 w H locs hH h => ?_)
    refine hx_sI C0 hU hH h dX1_receiveHello_207 (fun w H locs hH h => ?_)
    refine hx_Si C0 hU hH (As := [va_rf (some b_1)]) (wk_X1_mix l h) (va_cwS 1 hts (lw_S q704 q705 q60 q706) rfl rfl rfl (by decide +kernel) ⟨Nat.le_of_ble_eq_true rfl, Nat.le_of_ble_eq_true rfl⟩) rfl hl.1 rfl (Nat.le_of_ble_eq_true rfl) dX1_receiveHello_208 ⟨Nat.le_of_ble_eq_true rfl, Nat.le_of_ble_eq_true rfl⟩ (fun i_8 w H locs hH h => ?_)
    refine lv_istore hx hb dX1_receiveHello_211 hl (by decide) (lv' := [(5, .int i_8), (0, va_rf (some a0)), (1, .int x1), (2, va_rf (some a2)), (3, va_rf (some a3)), (4, .int x4)]) rfl (fun ls hl => ?_)
    refine hx_aload_n C0 dX1_receiveHello_213 rfl (lv_at hl 4 rfl) ?_
    refine lv_iconst (v := 4) hx hb dX1_receiveHello_214 (by decide) ?_
    refine hx_aI C0 hU hH h dX1_receiveHello_215 (fun i_9 h => ?_)
    refine lv_iload hx hb dX1_receiveHello_216 (lv_at hl 0 rfl) ?_
    refine lv_iconst (v := 5) hx hb dX1_receiveHello_218 (by decide) ?_
    refine hx_nI C0 hU hH (Nat.le_of_ble_eq_true rfl) (Nat.le_of_ble_eq_true rfl) (Nat.le_of_ble_eq_true rfl) h dX1_receiveHello_219 (fun b_10 w H locs hH h => ?_)
    refine lv_dup hx hb dX1_receiveHello_221 rfl ?_
    refine lv_iconst (v := 0) hx hb dX1_receiveHello_222 (by decide) ?_
    refine lv_iconst (v := 1) hx hb dX1_receiveHello_223 (by decide) ?_
    refine hx_sI C0 hU hH h dX1_receiveHello_224 (fun w H locs hH h => ?_)
    refine lv_dup hx hb dX1_receiveHello_225 rfl ?_
    refine lv_iconst (v := 1) hx hb dX1_receiveHello_226 (by decide) ?_
    refine hx_aload_n C0 dX1_receiveHello_227 rfl (lv_at hl 4 rfl) ?_
    refine lv_iconst (v := 0) hx hb dX1_receiveHello_228 (by decide) ?_
    refine hx_aI C0 hU hH h dX1_receiveHello_229 (fun i_11 h => ?_)
    refine hx_sI C0 hU hH h dX1_receiveHello_230 (fun w H locs hH h => ?_)
    refine lv_dup hx hb dX1_receiveHello_231 rfl ?_
    refine lv_iconst (v := 2) hx hb dX1_receiveHello_232 (by decide) ?_
    refine hx_aload_n C0 dX1_receiveHello_233 rfl (lv_at hl 4 rfl) ?_
    refine lv_iconst (v := 1) hx hb dX1_receiveHello_234 (by decide) ?_
    refine hx_aI C0 hU hH h dX1_receiveHello_235 (fun i_12 h => ?_)
    refine hx_sI C0 hU hH h dX1_receiveHello_236 (fun w H locs hH h => ?_)
    refine lv_dup hx hb dX1_receiveHello_237 rfl ?_
    refine lv_iconst (v := 3) hx hb dX1_receiveHello_238 (by decide) ?_
    refine hx_aload_n C0 dX1_receiveHello_239 rfl (lv_at hl 4 rfl) ?_
    refine lv_iconst (v := 2) hx hb dX1_receiveHello_240 (by decide) ?_
    refine hx_aI C0 hU hH h dX1_receiveHello_241 (fun i_13 h => ?_)
    refine hx_sI C0 hU hH h dX1_receiveHello_242 (fun w H locs hH h => ?_)
    refine lv_dup hx hb dX1_receiveHello_243 rfl ?_
    refine lv_iconst (v := 4) hx hb dX1_receiveHello_244 (by decide) ?_
    refine hx_aload_n C0 dX1_receiveHello_245 rfl (lv_at hl 4 rfl) ?_
    refine lv_iconst (v := 3) hx hb dX1_receiveHello_246 (by decide) ?_
    refine hx_aI C0 hU hH h dX1_receiveHello_247 (fun i_14 h => ?_)
    refine hx_sI C0 hU hH h dX1_receiveHello_248 (fun w H locs hH h => ?_)
    refine hx_Si C0 hU hH (As := [.int i_8, va_rf (some b_10)]) (wk_X1_sealOf l h) (va_cwS 2 hts (lw_S q643 q455 q60 q456) rfl rfl rfl (by decide +kernel) ⟨Nat.le_of_ble_eq_true rfl, Nat.le_of_ble_eq_true rfl⟩) rfl hl.1 rfl (Nat.le_of_ble_eq_true rfl) dX1_receiveHello_249 ⟨Nat.le_of_ble_eq_true rfl, Nat.le_of_ble_eq_true rfl⟩ (fun i_15 w H locs hH h => ?_)
    refine lv_icmp_eq hx hb dX1_receiveHello_252 (tgt := 258) (by decide) (fun c_16 => ?_) (fun c_16 => ?_)
    · have h := h.1 c_16
      refine hx_aload_n C0 dX1_receiveHello_258 rfl (lv_at hl 1 rfl) ?_
      refine hx_gR C0 hU hH (ci := 0) rfl in_X1 6 (by decide) q269 (fun _ h9 => h9) h dX1_receiveHello_259 (fun r_17 h => ?_)
      refine lv_iload_n hx hb dX1_receiveHello_262 rfl (lv_at hl 2 rfl) ?_
      obtain ⟨b_18, rfl, h9⟩ := h
      have h := h9
      clear h9
      refine hx_aR C0 hU hH h dX1_receiveHello_263 (fun r_19 h => ?_)
      refine lv_iload hx hb dX1_receiveHello_264 (lv_at hl 5 rfl) ?_
      obtain ⟨b_20, rfl, h9⟩ := h
      have h := h9
      clear h9
      refine hx_aR C0 hU hH h dX1_receiveHello_266 (fun r_21 h => ?_)
      refine hx_astore C0 dX1_receiveHello_267 hl (by decide) (lv' := [(6, va_rf r_21), (5, .int i_8), (0, va_rf (some a0)), (1, .int x1), (2, va_rf (some a2)), (3, va_rf (some a3)), (4, .int x4)]) rfl (fun ls hl => ?_)
      refine hx_aload_n C0 dX1_receiveHello_269 rfl (lv_at hl 5 rfl) ?_
      refine lv_iconst (v := 3) hx hb dX1_receiveHello_270 (by decide) ?_
      refine hx_aI C0 hU hH h dX1_receiveHello_271 (fun i_22 h => ?_)
      refine hx_aload C0 dX1_receiveHello_272 (lv_at hl 0 rfl) ?_
      obtain ⟨b_23, rfl, h9⟩ := h
      have h := h9
      clear h9
      refine hx_gIN C0 hU hH (ci := 2) rfl in_X3 5 (by decide) q232 (fun _ h9 => h9) h dX1_receiveHello_274 (fun i_24 h => ?_)
      refine lv_icmp_gt hx hb dX1_receiveHello_277 (tgt := 283) (by decide) (fun c_25 => ?_) (fun c_25 => ?_)
      · have h := h.1 c_25
        refine hx_aload C0 dX1_receiveHello_283 (lv_at hl 0 rfl) ?_
        refine hx_aload_n C0 dX1_receiveHello_285 rfl (lv_at hl 5 rfl) ?_
        refine lv_iconst (v := 3) hx hb dX1_receiveHello_286 (by decide) ?_
        refine hx_aI C0 hU hH h dX1_receiveHello_287 (fun i_26 h => ?_)
        refine hx_pVN C0 hU hH (ci := 2) rfl in_X3 tyX3 tyX3_ok nmX3 5 (by decide) q232 (fun _ h9 => h9) rfl rfl rfl h dX1_receiveHello_288 (fun w H locs hH h => ?_)
        refine hx_aload C0 dX1_receiveHello_291 (lv_at hl 0 rfl) ?_
        refine hx_aload_n C0 dX1_receiveHello_293 rfl (lv_at hl 4 rfl) ?_
        refine hx_gIN C0 hU hH (ci := 4) rfl in_X5 0 (by decide) q654 (fun _ h9 => h9) h dX1_receiveHello_294 (fun i_27 h => ?_)
        refine hx_pVN C0 hU hH (ci := 2) rfl in_X3 tyX3 tyX3_ok nmX3 0 (by decide) q224 (fun _ h9 => h9) rfl rfl rfl h dX1_receiveHello_297 (fun w H locs hH h => ?_)
        refine hx_aload_n C0 dX1_receiveHello_300 rfl (lv_at hl 2 rfl) ?_
        refine lv_dup hx hb dX1_receiveHello_301 rfl ?_
        refine hx_gI C0 hU hH (ci := 0) rfl in_X1 1 (by decide) q264 (fun _ h9 => h9) h dX1_receiveHello_302 (fun i_28 h => ?_)
        refine lv_iconst (v := 1) hx hb dX1_receiveHello_305 (by decide) ?_
        refine lv_iadd hx hb dX1_receiveHello_306 ?_
        refine hx_pV C0 hU hH (ci := 0) rfl in_X1 tyX1 tyX1_ok nmX1 1 (by decide) q264 (fun _ h9 => h9) (Or.inl rfl) rfl rfl h dX1_receiveHello_307 (fun w H locs hH h => ?_)
        refine hx_aload_n C0 dX1_receiveHello_310 rfl (lv_at hl 2 rfl) ?_
        refine hx_gI C0 hU hH (ci := 0) rfl in_X1 1 (by decide) q264 (fun _ h9 => h9) h dX1_receiveHello_311 (fun i_29 h => ?_)
        refine hx_Si C0 hU hH (As := [.int i_29]) (wk_X1_drawn l h) (va_cwS 1 hts (lw_S q689 q690 q60 q691) rfl rfl rfl (by decide +kernel) ⟨Nat.le_of_ble_eq_true rfl, Nat.le_of_ble_eq_true rfl⟩) rfl hl.1 rfl (Nat.le_of_ble_eq_true rfl) dX1_receiveHello_314 ⟨Nat.le_of_ble_eq_true rfl, Nat.le_of_ble_eq_true rfl⟩ (fun i_30 w H locs hH h => ?_)
        refine lv_istore hx hb dX1_receiveHello_317 hl (by decide) (lv' := [(7, .int i_30), (6, va_rf (some b_23)), (5, .int i_8), (0, va_rf (some a0)), (1, .int x1), (2, va_rf (some a2)), (3, va_rf (some a3)), (4, .int x4)]) rfl (fun ls hl => ?_)
        refine lv_bipush (v := 7) hx hb dX1_receiveHello_319 (by decide) ?_
        refine lv_iload hx hb dX1_receiveHello_321 (lv_at hl 0 rfl) ?_
        refine hx_Si C0 hU hH (As := [.int (7 : Int32), .int i_30]) (wk_X1_power l h) (va_cwS 2 hts (lw_S q694 q695 q60 q696) rfl rfl rfl (by decide +kernel) ⟨Nat.le_of_ble_eq_true rfl, Nat.le_of_ble_eq_true rfl⟩) rfl hl.1 rfl (Nat.le_of_ble_eq_true rfl) dX1_receiveHello_323 ⟨Nat.le_of_ble_eq_true rfl, Nat.le_of_ble_eq_true rfl⟩ (fun i_31 w H locs hH h => ?_)
        refine lv_istore hx hb dX1_receiveHello_326 hl (by decide) (lv' := [(8, .int i_31), (7, .int i_30), (6, va_rf (some b_23)), (5, .int i_8), (0, va_rf (some a0)), (1, .int x1), (2, va_rf (some a2)), (3, va_rf (some a3)), (4, .int x4)]) rfl (fun ls hl => ?_)
        refine lv_iconst (v := 4) hx hb dX1_receiveHello_328 (by decide) ?_
        refine hx_nI C0 hU hH (Nat.le_of_ble_eq_true rfl) (Nat.le_of_ble_eq_true rfl) (Nat.le_of_ble_eq_true rfl) h dX1_receiveHello_329 (fun b_32 w H locs hH h => ?_)
        refine lv_dup hx hb dX1_receiveHello_331 rfl ?_
        refine lv_iconst (v := 0) hx hb dX1_receiveHello_332 (by decide) ?_
        refine lv_iconst (v := 4) hx hb dX1_receiveHello_333 (by decide) ?_
        refine hx_sI C0 hU hH h dX1_receiveHello_334 (fun w H locs hH h => ?_)
        refine lv_dup hx hb dX1_receiveHello_335 rfl ?_
        refine lv_iconst (v := 1) hx hb dX1_receiveHello_336 (by decide) ?_
        refine lv_iload hx hb dX1_receiveHello_337 (lv_at hl 3 rfl) ?_
        refine hx_sI C0 hU hH h dX1_receiveHello_339 (fun w H locs hH h => ?_)
        refine lv_dup hx hb dX1_receiveHello_340 rfl ?_
        refine lv_iconst (v := 2) hx hb dX1_receiveHello_341 (by decide) ?_
        refine hx_aload_n C0 dX1_receiveHello_342 rfl (lv_at hl 7 rfl) ?_
        refine lv_iconst (v := 1) hx hb dX1_receiveHello_343 (by decide) ?_
        refine hx_aI C0 hU hH h dX1_receiveHello_344 (fun i_33 h => ?_)
        refine lv_iload hx hb dX1_receiveHello_345 (lv_at hl 1 rfl) ?_
        refine hx_Si C0 hU hH (As := [.int i_33, .int i_30]) (wk_X1_power l h) (va_cwS 2 hts (lw_S q694 q695 q60 q696) rfl rfl rfl (by decide +kernel) ⟨Nat.le_of_ble_eq_true rfl, Nat.le_of_ble_eq_true rfl⟩) rfl hl.1 rfl (Nat.le_of_ble_eq_true rfl) dX1_receiveHello_347 ⟨Nat.le_of_ble_eq_true rfl, Nat.le_of_ble_eq_true rfl⟩ (fun i_34 w H locs hH h => ?_)
        refine hx_sI C0 hU hH h dX1_receiveHello_350 (fun w H locs hH h => ?_)
        refine lv_dup hx hb dX1_receiveHello_351 rfl ?_
        refine lv_iconst (v := 3) hx hb dX1_receiveHello_352 (by decide) ?_
        refine lv_iload hx hb dX1_receiveHello_353 (lv_at hl 8 rfl) ?_
        refine hx_Si C0 hU hH (As := [.int x4]) (wk_X1_publicNumber l h) (va_cwS 1 hts (lw_S q698 q699 q60 q700) rfl rfl rfl (by decide +kernel) ⟨Nat.le_of_ble_eq_true rfl, Nat.le_of_ble_eq_true rfl⟩) rfl hl.1 rfl (Nat.le_of_ble_eq_true rfl) dX1_receiveHello_355 ⟨Nat.le_of_ble_eq_true rfl, Nat.le_of_ble_eq_true rfl⟩ (fun i_35 w H locs hH h => ?_)
        refine lv_iload hx hb dX1_receiveHello_358 (lv_at hl 1 rfl) ?_
        refine hx_Si C0 hU hH (As := [.int i_35, .int i_30]) (wk_X1_power l h) (va_cwS 2 hts (lw_S q694 q695 q60 q696) rfl rfl rfl (by decide +kernel) ⟨Nat.le_of_ble_eq_true rfl, Nat.le_of_ble_eq_true rfl⟩) rfl hl.1 rfl (Nat.le_of_ble_eq_true rfl) dX1_receiveHello_360 ⟨Nat.le_of_ble_eq_true rfl, Nat.le_of_ble_eq_true rfl⟩ (fun i_36 w H locs hH h => ?_)
        refine hx_sI C0 hU hH h dX1_receiveHello_363 (fun w H locs hH h => ?_)
        refine hx_Si C0 hU hH (As := [va_rf (some b_32)]) (wk_X1_mix l h) (va_cwS 1 hts (lw_S q704 q705 q60 q706) rfl rfl rfl (by decide +kernel) ⟨Nat.le_of_ble_eq_true rfl, Nat.le_of_ble_eq_true rfl⟩) rfl hl.1 rfl (Nat.le_of_ble_eq_true rfl) dX1_receiveHello_364 ⟨Nat.le_of_ble_eq_true rfl, Nat.le_of_ble_eq_true rfl⟩ (fun i_37 w H locs hH h => ?_)
        refine lv_istore hx hb dX1_receiveHello_367 hl (by decide) (lv' := [(9, .int i_37), (8, .int i_31), (7, .int i_30), (6, va_rf (some b_23)), (5, .int i_8), (0, va_rf (some a0)), (1, .int x1), (2, va_rf (some a2)), (3, va_rf (some a3)), (4, .int x4)]) rfl (fun ls hl => ?_)
        refine hx_aload_n C0 dX1_receiveHello_369 rfl (lv_at hl 5 rfl) ?_
        refine lv_iload_n hx hb dX1_receiveHello_370 rfl (lv_at hl 6 rfl) ?_
        refine hx_aload C0 dX1_receiveHello_371 (lv_at hl 3 rfl) ?_
        refine hx_gIN C0 hU hH (ci := 2) rfl in_X3 0 (by decide) q224 (fun _ h9 => h9) h dX1_receiveHello_373 (fun i_38 h => ?_)
        refine lv_iconst (v := 2) hx hb dX1_receiveHello_376 (by decide) ?_
        refine lv_iload hx hb dX1_receiveHello_377 (lv_at hl 0 rfl) ?_
        refine lv_iconst (v := 4) hx hb dX1_receiveHello_379 (by decide) ?_
        refine hx_nI C0 hU hH (Nat.le_of_ble_eq_true rfl) (Nat.le_of_ble_eq_true rfl) (Nat.le_of_ble_eq_true rfl) h dX1_receiveHello_380 (fun b_39 w H locs hH h => ?_)
        refine lv_dup hx hb dX1_receiveHello_382 rfl ?_
        refine lv_iconst (v := 0) hx hb dX1_receiveHello_383 (by decide) ?_
        refine hx_aload_n C0 dX1_receiveHello_384 rfl (lv_at hl 5 rfl) ?_
        refine hx_gI C0 hU hH (ci := 0) rfl in_X1 1 (by decide) q264 (fun _ h9 => h9) h dX1_receiveHello_385 (fun i_40 h => ?_)
        refine hx_sI C0 hU hH h dX1_receiveHello_388 (fun w H locs hH h => ?_)
        refine lv_dup hx hb dX1_receiveHello_389 rfl ?_
        refine lv_iconst (v := 1) hx hb dX1_receiveHello_390 (by decide) ?_
        refine hx_aload_n C0 dX1_receiveHello_391 rfl (lv_at hl 8 rfl) ?_
        refine lv_iconst (v := 0) hx hb dX1_receiveHello_392 (by decide) ?_
        refine hx_aI C0 hU hH h dX1_receiveHello_393 (fun i_41 h => ?_)
        refine hx_sI C0 hU hH h dX1_receiveHello_394 (fun w H locs hH h => ?_)
        refine lv_dup hx hb dX1_receiveHello_395 rfl ?_
        refine lv_iconst (v := 2) hx hb dX1_receiveHello_396 (by decide) ?_
        refine lv_iload hx hb dX1_receiveHello_397 (lv_at hl 1 rfl) ?_
        refine hx_sI C0 hU hH h dX1_receiveHello_399 (fun w H locs hH h => ?_)
        refine lv_dup hx hb dX1_receiveHello_400 rfl ?_
        refine lv_iconst (v := 3) hx hb dX1_receiveHello_401 (by decide) ?_
        refine lv_iload hx hb dX1_receiveHello_402 (lv_at hl 0 rfl) ?_
        refine lv_iconst (v := 4) hx hb dX1_receiveHello_404 (by decide) ?_
        refine hx_nI C0 hU hH (Nat.le_of_ble_eq_true rfl) (Nat.le_of_ble_eq_true rfl) (Nat.le_of_ble_eq_true rfl) h dX1_receiveHello_405 (fun b_42 w H locs hH h => ?_)
        refine lv_dup hx hb dX1_receiveHello_407 rfl ?_
        refine lv_iconst (v := 0) hx hb dX1_receiveHello_408 (by decide) ?_
        refine lv_iconst (v := 2) hx hb dX1_receiveHello_409 (by decide) ?_
        refine hx_sI C0 hU hH h dX1_receiveHello_410 (fun w H locs hH h => ?_)
        refine lv_dup hx hb dX1_receiveHello_411 rfl ?_
        refine lv_iconst (v := 1) hx hb dX1_receiveHello_412 (by decide) ?_
        refine hx_aload_n C0 dX1_receiveHello_413 rfl (lv_at hl 5 rfl) ?_
        refine hx_gI C0 hU hH (ci := 0) rfl in_X1 1 (by decide) q264 (fun _ h9 => h9) h dX1_receiveHello_414 (fun i_43 h => ?_)
        refine hx_sI C0 hU hH h dX1_receiveHello_417 (fun w H locs hH h => ?_)
        refine lv_dup hx hb dX1_receiveHello_418 rfl ?_
        refine lv_iconst (v := 2) hx hb dX1_receiveHello_419 (by decide) ?_
        refine hx_aload_n C0 dX1_receiveHello_420 rfl (lv_at hl 8 rfl) ?_
        refine lv_iconst (v := 0) hx hb dX1_receiveHello_421 (by decide) ?_
        refine hx_aI C0 hU hH h dX1_receiveHello_422 (fun i_44 h => ?_)
        refine hx_sI C0 hU hH h dX1_receiveHello_423 (fun w H locs hH h => ?_)
        refine lv_dup hx hb dX1_receiveHello_424 rfl ?_
        refine lv_iconst (v := 3) hx hb dX1_receiveHello_425 (by decide) ?_
        refine lv_iload hx hb dX1_receiveHello_426 (lv_at hl 1 rfl) ?_
        refine hx_sI C0 hU hH h dX1_receiveHello_428 (fun w H locs hH h => ?_)
        refine hx_Si C0 hU hH (As := [.int i_37, va_rf (some b_42)]) (wk_X1_sealOf l h) (va_cwS 2 hts (lw_S q643 q455 q60 q456) rfl rfl rfl (by decide +kernel) ⟨Nat.le_of_ble_eq_true rfl, Nat.le_of_ble_eq_true rfl⟩) rfl hl.1 rfl (Nat.le_of_ble_eq_true rfl) dX1_receiveHello_429 ⟨Nat.le_of_ble_eq_true rfl, Nat.le_of_ble_eq_true rfl⟩ (fun i_45 w H locs hH h => ?_)
        refine hx_sI C0 hU hH h dX1_receiveHello_432 (fun w H locs hH h => ?_)
        obtain ⟨ho, h⟩ := h
        refine hx_Vv C0 hU hH (As := [.int x1, .int i_38, .int (2 : Int32), .int i_37, va_rf (some b_39)]) (wk_X1_post l h) (cwV 5 hts (lw_V q644 q646 qs14 q60 q647) rfl rfl rfl (by decide +kernel) ⟨Nat.le_of_ble_eq_true rfl, Nat.le_of_ble_eq_true rfl⟩) (hx_recv hU hH (ci := 0) rfl ho) rfl hl.1 rfl (Nat.le_of_ble_eq_true rfl) dX1_receiveHello_433 ⟨Nat.le_of_ble_eq_true rfl, Nat.le_of_ble_eq_true rfl⟩ (fun w H locs hH h => ?_)
        refine hx_aload C0 dX1_receiveHello_436 (lv_at hl 3 rfl) ?_
        refine hx_new C0 hU hH (ci := 6) rfl in_X7 tyX7 tyX7_ok q438 q442 q85 nfX7 (Nat.le_of_ble_eq_true rfl) (Nat.le_of_ble_eq_true rfl) h dX1_receiveHello_438 (fun b_46 w H locs hH h => ?_)
        refine lv_dup hx hb dX1_receiveHello_441 rfl ?_
        refine hx_aload_n C0 dX1_receiveHello_442 rfl (lv_at hl 5 rfl) ?_
        refine hx_gI C0 hU hH (ci := 0) rfl in_X1 1 (by decide) q264 (fun _ h9 => h9) h dX1_receiveHello_443 (fun i_47 h => ?_)
        refine hx_aload_n C0 dX1_receiveHello_446 rfl (lv_at hl 8 rfl) ?_
        refine lv_iconst (v := 0) hx hb dX1_receiveHello_447 (by decide) ?_
        refine hx_aI C0 hU hH h dX1_receiveHello_448 (fun i_48 h => ?_)
        refine hx_aload_n C0 dX1_receiveHello_449 rfl (lv_at hl 5 rfl) ?_
        refine hx_gI C0 hU hH (ci := 0) rfl in_X1 0 (by decide) q263 (fun _ h9 => h9) h dX1_receiveHello_450 (fun i_49 h => ?_)
        refine lv_iconst (v := 3) hx hb dX1_receiveHello_453 (by decide) ?_
        refine hx_nI C0 hU hH (Nat.le_of_ble_eq_true rfl) (Nat.le_of_ble_eq_true rfl) (Nat.le_of_ble_eq_true rfl) h dX1_receiveHello_454 (fun b_50 w H locs hH h => ?_)
        refine lv_dup hx hb dX1_receiveHello_456 rfl ?_
        refine lv_iconst (v := 0) hx hb dX1_receiveHello_457 (by decide) ?_
        refine lv_iconst (v := 5) hx hb dX1_receiveHello_458 (by decide) ?_
        refine hx_sI C0 hU hH h dX1_receiveHello_459 (fun w H locs hH h => ?_)
        refine lv_dup hx hb dX1_receiveHello_460 rfl ?_
        refine lv_iconst (v := 1) hx hb dX1_receiveHello_461 (by decide) ?_
        refine lv_iload hx hb dX1_receiveHello_462 (lv_at hl 0 rfl) ?_
        refine hx_sI C0 hU hH h dX1_receiveHello_464 (fun w H locs hH h => ?_)
        refine lv_dup hx hb dX1_receiveHello_465 rfl ?_
        refine lv_iconst (v := 2) hx hb dX1_receiveHello_466 (by decide) ?_
        refine lv_iconst (v := 1) hx hb dX1_receiveHello_467 (by decide) ?_
        refine hx_sI C0 hU hH h dX1_receiveHello_468 (fun w H locs hH h => ?_)
        refine hx_Si C0 hU hH (As := [va_rf (some b_50)]) (wk_X1_mix l h) (va_cwS 1 hts (lw_S q704 q705 q60 q706) rfl rfl rfl (by decide +kernel) ⟨Nat.le_of_ble_eq_true rfl, Nat.le_of_ble_eq_true rfl⟩) rfl hl.1 rfl (Nat.le_of_ble_eq_true rfl) dX1_receiveHello_469 ⟨Nat.le_of_ble_eq_true rfl, Nat.le_of_ble_eq_true rfl⟩ (fun i_51 w H locs hH h => ?_)
        refine lv_iconst (v := 3) hx hb dX1_receiveHello_472 (by decide) ?_
        refine hx_nI C0 hU hH (Nat.le_of_ble_eq_true rfl) (Nat.le_of_ble_eq_true rfl) (Nat.le_of_ble_eq_true rfl) h dX1_receiveHello_473 (fun b_52 w H locs hH h => ?_)
        refine lv_dup hx hb dX1_receiveHello_475 rfl ?_
        refine lv_iconst (v := 0) hx hb dX1_receiveHello_476 (by decide) ?_
        refine lv_iconst (v := 5) hx hb dX1_receiveHello_477 (by decide) ?_
        refine hx_sI C0 hU hH h dX1_receiveHello_478 (fun w H locs hH h => ?_)
        refine lv_dup hx hb dX1_receiveHello_479 rfl ?_
        refine lv_iconst (v := 1) hx hb dX1_receiveHello_480 (by decide) ?_
        refine lv_iload hx hb dX1_receiveHello_481 (lv_at hl 0 rfl) ?_
        refine hx_sI C0 hU hH h dX1_receiveHello_483 (fun w H locs hH h => ?_)
        refine lv_dup hx hb dX1_receiveHello_484 rfl ?_
        refine lv_iconst (v := 2) hx hb dX1_receiveHello_485 (by decide) ?_
        refine lv_iconst (v := 0) hx hb dX1_receiveHello_486 (by decide) ?_
        refine hx_sI C0 hU hH h dX1_receiveHello_487 (fun w H locs hH h => ?_)
        refine hx_Si C0 hU hH (As := [va_rf (some b_52)]) (wk_X1_mix l h) (va_cwS 1 hts (lw_S q704 q705 q60 q706) rfl rfl rfl (by decide +kernel) ⟨Nat.le_of_ble_eq_true rfl, Nat.le_of_ble_eq_true rfl⟩) rfl hl.1 rfl (Nat.le_of_ble_eq_true rfl) dX1_receiveHello_488 ⟨Nat.le_of_ble_eq_true rfl, Nat.le_of_ble_eq_true rfl⟩ (fun i_53 w H locs hH h => ?_)
        refine lv_iconst (v := 0) hx hb dX1_receiveHello_491 (by decide) ?_
        refine hx_INv C0 hU hH (As := [.int i_47, .int i_48, .int i_49, .int i_51, .int i_53, .int (0 : Int32)]) (wk_X7_init l h) ⟨va_cnB 6 hts (lw_meth q800) rfl rfl rfl (hU.2.2.1 _ q798 rfl) (hts _ q85) (by decide +kernel) ⟨Nat.le_of_ble_eq_true rfl, Nat.le_of_ble_eq_true rfl⟩, rfl, hts _ q799⟩ rfl hl.1 rfl (Nat.le_of_ble_eq_true rfl) dX1_receiveHello_492 ⟨Nat.le_of_ble_eq_true rfl, Nat.le_of_ble_eq_true rfl⟩ (fun w H locs hH h => ?_)
        refine hx_pVN C0 hU hH (ci := 2) rfl in_X3 tyX3 tyX3_ok nmX3 3 (by decide) q230 (fun _ h9 => h9) rfl (hx_fo _ _).1 (hx_fo _ _).2 h dX1_receiveHello_495 (fun w H locs hH h => ?_)
        refine lv_iconst (v := 3) hx hb dX1_receiveHello_498 (by decide) ?_
        exact hx_reti C0 hH hr hlocks h (Nat.le_of_ble_eq_true rfl) (Nat.le_of_ble_eq_true rfl) dX1_receiveHello_499
      · have h := h.2 c_25
        refine lv_bipush (v := -6) hx hb dX1_receiveHello_280 (by decide) ?_
        exact hx_reti C0 hH hr hlocks h (Nat.le_of_ble_eq_true rfl) (Nat.le_of_ble_eq_true rfl) dX1_receiveHello_282
    · have h := h.2 c_16
      refine lv_bipush (v := -2) hx hb dX1_receiveHello_255 (by decide) ?_
      exact hx_reti C0 hH hr hlocks h (Nat.le_of_ble_eq_true rfl) (Nat.le_of_ble_eq_true rfl) dX1_receiveHello_257
  refine hx_aload_n C0 dX1_receiveHello_0 rfl (lv_at hl 2 rfl) ?_
  refine hx_gRN C0 hU hH (ci := 4) rfl in_X5 4 (by decide) q661 (fun _ h9 => h9) h dX1_receiveHello_1 (fun r_1 h => ?_)
  refine hx_astore_n C0 dX1_receiveHello_4 rfl hl (by decide) (lv' := [(3, va_rf r_1), (0, va_rf (some a0)), (1, .int x1), (2, va_rf (some a2))]) rfl (fun ls hl => ?_)
  refine hx_aload_n C0 dX1_receiveHello_5 rfl (lv_at hl 0 rfl) ?_
  refine lv_iconst (v := 2) hx hb dX1_receiveHello_6 (by decide) ?_
  obtain ⟨b_2, rfl, h9⟩ := h
  have h := h9
  clear h9
  refine hx_aI C0 hU hH h dX1_receiveHello_7 (fun i_3 h => ?_)
  refine lv_bipush (v := 10) hx hb dX1_receiveHello_8 (by decide) ?_
  refine lv_idiv hx hb dX1_receiveHello_10 (by decide) ?_
  refine lv_topi (fun i_4 ei_4 => ?_)
  have h := h i_4 ei_4
  refine lv_istore hx hb dX1_receiveHello_11 hl (by decide) (lv' := [(4, .int i_4), (3, va_rf (some b_2)), (0, va_rf (some a0)), (1, .int x1), (2, va_rf (some a2))]) rfl (fun ls hl => ?_)
  refine hx_aload_n C0 dX1_receiveHello_13 rfl (lv_at hl 1 rfl) ?_
  refine lv_iconst (v := 2) hx hb dX1_receiveHello_14 (by decide) ?_
  refine hx_aI C0 hU hH h dX1_receiveHello_15 (fun i_5 h => ?_)
  refine lv_bipush (v := 10) hx hb dX1_receiveHello_16 (by decide) ?_
  refine lv_irem hx hb dX1_receiveHello_18 (by decide) ?_
  refine lv_topi (fun i_6 ei_6 => ?_)
  have h := h i_6 ei_6
  refine lv_iload_n hx hb dX1_receiveHello_19 rfl (lv_at hl 3 rfl) ?_
  refine lv_icmp_eq hx hb dX1_receiveHello_20 (tgt := 25) (by decide) (fun c_7 => ?_) (fun c_7 => ?_)
  · have h := h.1 c_7
    refine hx_aload_n C0 dX1_receiveHello_25 rfl (lv_at hl 2 rfl) ?_
    refine hx_gR C0 hU hH (ci := 0) rfl in_X1 4 (by decide) q267 (fun _ h9 => h9) h dX1_receiveHello_26 (fun r_8 h => ?_)
    refine lv_iload_n hx hb dX1_receiveHello_29 rfl (lv_at hl 3 rfl) ?_
    obtain ⟨b_9, rfl, h9⟩ := h
    have h := h9
    clear h9
    refine hx_aZ C0 hU hH h dX1_receiveHello_30 (fun i_10 h => ?_)
    refine lv_if_eq hx hb dX1_receiveHello_31 (tgt := 173) (by decide) (fun c_11 => ?_) (fun c_11 => ?_)
    · have h := h.1 c_11
      refine W.widen (k := 2) (n := 7) (Nat.le_of_ble_eq_true rfl) (Nat.le_of_ble_eq_true rfl) ?_
      exact b173 _ _ _ _ _ _ h _ _ _ hH (lv_sub hl [2, 3, 4, 1, 0] rfl)
    · have h := h.2 c_11
      refine hx_aload_n C0 dX1_receiveHello_34 rfl (lv_at hl 2 rfl) ?_
      refine lv_iload_n hx hb dX1_receiveHello_35 rfl (lv_at hl 3 rfl) ?_
      refine hx_aload_n C0 dX1_receiveHello_36 rfl (lv_at hl 4 rfl) ?_
      refine hx_gIN C0 hU hH (ci := 4) rfl in_X5 0 (by decide) q654 (fun _ h9 => h9) h dX1_receiveHello_37 (fun i_12 h => ?_)
      obtain ⟨ho, h⟩ := h
      refine hx_Vi C0 hU hH (As := [.int x1, .int i_12]) (wk_X1_cookieOf l h) (cwV 2 hts (lw_V q794 q796 qs24 q60 q797) rfl rfl rfl (by decide +kernel) ⟨Nat.le_of_ble_eq_true rfl, Nat.le_of_ble_eq_true rfl⟩) (hx_recv hU hH (ci := 0) rfl ho) rfl hl.1 rfl (Nat.le_of_ble_eq_true rfl) dX1_receiveHello_40 ⟨Nat.le_of_ble_eq_true rfl, Nat.le_of_ble_eq_true rfl⟩ (fun i_13 w H locs hH h => ?_)
      refine lv_istore hx hb dX1_receiveHello_43 hl (by decide) (lv' := [(5, .int i_13), (4, .int i_4), (3, va_rf (some b_2)), (0, va_rf (some a0)), (1, .int x1), (2, va_rf (some a2))]) rfl (fun ls hl => ?_)
      refine hx_aload_n C0 dX1_receiveHello_45 rfl (lv_at hl 2 rfl) ?_
      refine lv_iconst (v := 5) hx hb dX1_receiveHello_46 (by decide) ?_
      refine hx_aI C0 hU hH h dX1_receiveHello_47 (fun i_14 h => ?_)
      refine lv_iconst (v := 3) hx hb dX1_receiveHello_48 (by decide) ?_
      refine hx_nI C0 hU hH (Nat.le_of_ble_eq_true rfl) (Nat.le_of_ble_eq_true rfl) (Nat.le_of_ble_eq_true rfl) h dX1_receiveHello_49 (fun b_15 w H locs hH h => ?_)
      refine lv_dup hx hb dX1_receiveHello_51 rfl ?_
      refine lv_iconst (v := 0) hx hb dX1_receiveHello_52 (by decide) ?_
      refine lv_iconst (v := 2) hx hb dX1_receiveHello_53 (by decide) ?_
      refine hx_sI C0 hU hH h dX1_receiveHello_54 (fun w H locs hH h => ?_)
      refine lv_dup hx hb dX1_receiveHello_55 rfl ?_
      refine lv_iconst (v := 1) hx hb dX1_receiveHello_56 (by decide) ?_
      refine lv_iload hx hb dX1_receiveHello_57 (lv_at hl 0 rfl) ?_
      refine hx_sI C0 hU hH h dX1_receiveHello_59 (fun w H locs hH h => ?_)
      refine lv_dup hx hb dX1_receiveHello_60 rfl ?_
      refine lv_iconst (v := 2) hx hb dX1_receiveHello_61 (by decide) ?_
      refine hx_aload_n C0 dX1_receiveHello_62 rfl (lv_at hl 2 rfl) ?_
      refine lv_iconst (v := 4) hx hb dX1_receiveHello_63 (by decide) ?_
      refine hx_aI C0 hU hH h dX1_receiveHello_64 (fun i_16 h => ?_)
      refine hx_sI C0 hU hH h dX1_receiveHello_65 (fun w H locs hH h => ?_)
      refine hx_Si C0 hU hH (As := [va_rf (some b_15)]) (wk_X1_mix l h) (va_cwS 1 hts (lw_S q704 q705 q60 q706) rfl rfl rfl (by decide +kernel) ⟨Nat.le_of_ble_eq_true rfl, Nat.le_of_ble_eq_true rfl⟩) rfl hl.1 rfl (Nat.le_of_ble_eq_true rfl) dX1_receiveHello_66 ⟨Nat.le_of_ble_eq_true rfl, Nat.le_of_ble_eq_true rfl⟩ (fun i_17 w H locs hH h => ?_)
      refine lv_icmp_eq hx hb dX1_receiveHello_69 (tgt := 173) (by decide) (fun c_18 => ?_) (fun c_18 => ?_)
      · have h := h.1 c_18
        refine W.widen (k := 2) (n := 7) (Nat.le_of_ble_eq_true rfl) (Nat.le_of_ble_eq_true rfl) ?_
        exact b173 _ _ _ _ _ _ h _ _ _ hH (lv_sub hl [3, 4, 5, 2, 1] rfl)
      · have h := h.2 c_18
        refine lv_iconst (v := 3) hx hb dX1_receiveHello_72 (by decide) ?_
        refine hx_nI C0 hU hH (Nat.le_of_ble_eq_true rfl) (Nat.le_of_ble_eq_true rfl) (Nat.le_of_ble_eq_true rfl) h dX1_receiveHello_73 (fun b_19 w H locs hH h => ?_)
        refine lv_dup hx hb dX1_receiveHello_75 rfl ?_
        refine lv_iconst (v := 0) hx hb dX1_receiveHello_76 (by decide) ?_
        refine lv_iconst (v := 3) hx hb dX1_receiveHello_77 (by decide) ?_
        refine hx_sI C0 hU hH h dX1_receiveHello_78 (fun w H locs hH h => ?_)
        refine lv_dup hx hb dX1_receiveHello_79 rfl ?_
        refine lv_iconst (v := 1) hx hb dX1_receiveHello_80 (by decide) ?_
        refine lv_iload_n hx hb dX1_receiveHello_81 rfl (lv_at hl 4 rfl) ?_
        refine hx_Si C0 hU hH (As := [.int x1]) (wk_X1_publicNumber l h) (va_cwS 1 hts (lw_S q698 q699 q60 q700) rfl rfl rfl (by decide +kernel) ⟨Nat.le_of_ble_eq_true rfl, Nat.le_of_ble_eq_true rfl⟩) rfl hl.1 rfl (Nat.le_of_ble_eq_true rfl) dX1_receiveHello_82 ⟨Nat.le_of_ble_eq_true rfl, Nat.le_of_ble_eq_true rfl⟩ (fun i_20 w H locs hH h => ?_)
        refine hx_sI C0 hU hH h dX1_receiveHello_85 (fun w H locs hH h => ?_)
        refine lv_dup hx hb dX1_receiveHello_86 rfl ?_
        refine lv_iconst (v := 2) hx hb dX1_receiveHello_87 (by decide) ?_
        refine hx_aload_n C0 dX1_receiveHello_88 rfl (lv_at hl 2 rfl) ?_
        refine lv_iconst (v := 4) hx hb dX1_receiveHello_89 (by decide) ?_
        refine hx_aI C0 hU hH h dX1_receiveHello_90 (fun i_21 h => ?_)
        refine hx_sI C0 hU hH h dX1_receiveHello_91 (fun w H locs hH h => ?_)
        refine hx_Si C0 hU hH (As := [va_rf (some b_19)]) (wk_X1_mix l h) (va_cwS 1 hts (lw_S q704 q705 q60 q706) rfl rfl rfl (by decide +kernel) ⟨Nat.le_of_ble_eq_true rfl, Nat.le_of_ble_eq_true rfl⟩) rfl hl.1 rfl (Nat.le_of_ble_eq_true rfl) dX1_receiveHello_92 ⟨Nat.le_of_ble_eq_true rfl, Nat.le_of_ble_eq_true rfl⟩ (fun i_22 w H locs hH h => ?_)
        refine lv_iconst (v := 3) hx hb dX1_receiveHello_95 (by decide) ?_
        refine hx_nI C0 hU hH (Nat.le_of_ble_eq_true rfl) (Nat.le_of_ble_eq_true rfl) (Nat.le_of_ble_eq_true rfl) h dX1_receiveHello_96 (fun b_23 w H locs hH h => ?_)
        refine lv_dup hx hb dX1_receiveHello_98 rfl ?_
        refine lv_iconst (v := 0) hx hb dX1_receiveHello_99 (by decide) ?_
        refine lv_iconst (v := 3) hx hb dX1_receiveHello_100 (by decide) ?_
        refine hx_sI C0 hU hH h dX1_receiveHello_101 (fun w H locs hH h => ?_)
        refine lv_dup hx hb dX1_receiveHello_102 rfl ?_
        refine lv_iconst (v := 1) hx hb dX1_receiveHello_103 (by decide) ?_
        refine hx_aload_n C0 dX1_receiveHello_104 rfl (lv_at hl 2 rfl) ?_
        refine lv_iconst (v := 0) hx hb dX1_receiveHello_105 (by decide) ?_
        refine hx_aI C0 hU hH h dX1_receiveHello_106 (fun i_24 h => ?_)
        refine hx_sI C0 hU hH h dX1_receiveHello_107 (fun w H locs hH h => ?_)
        refine lv_dup hx hb dX1_receiveHello_108 rfl ?_
        refine lv_iconst (v := 2) hx hb dX1_receiveHello_109 (by decide) ?_
        refine lv_iload hx hb dX1_receiveHello_110 (lv_at hl 0 rfl) ?_
        refine hx_sI C0 hU hH h dX1_receiveHello_112 (fun w H locs hH h => ?_)
        refine hx_Si C0 hU hH (As := [.int i_22, va_rf (some b_23)]) (wk_X1_sealOf l h) (va_cwS 2 hts (lw_S q643 q455 q60 q456) rfl rfl rfl (by decide +kernel) ⟨Nat.le_of_ble_eq_true rfl, Nat.le_of_ble_eq_true rfl⟩) rfl hl.1 rfl (Nat.le_of_ble_eq_true rfl) dX1_receiveHello_113 ⟨Nat.le_of_ble_eq_true rfl, Nat.le_of_ble_eq_true rfl⟩ (fun i_25 w H locs hH h => ?_)
        refine lv_istore hx hb dX1_receiveHello_116 hl (by decide) (lv' := [(6, .int i_25), (5, .int i_13), (4, .int i_4), (3, va_rf (some b_2)), (0, va_rf (some a0)), (1, .int x1), (2, va_rf (some a2))]) rfl (fun ls hl => ?_)
        refine hx_aload_n C0 dX1_receiveHello_118 rfl (lv_at hl 4 rfl) ?_
        refine lv_iload_n hx hb dX1_receiveHello_119 rfl (lv_at hl 5 rfl) ?_
        refine hx_aload_n C0 dX1_receiveHello_120 rfl (lv_at hl 6 rfl) ?_
        refine hx_gIN C0 hU hH (ci := 4) rfl in_X5 0 (by decide) q654 (fun _ h9 => h9) h dX1_receiveHello_121 (fun i_26 h => ?_)
        refine lv_iconst (v := 3) hx hb dX1_receiveHello_124 (by decide) ?_
        refine lv_iconst (v := 3) hx hb dX1_receiveHello_125 (by decide) ?_
        refine hx_nI C0 hU hH (Nat.le_of_ble_eq_true rfl) (Nat.le_of_ble_eq_true rfl) (Nat.le_of_ble_eq_true rfl) h dX1_receiveHello_126 (fun b_27 w H locs hH h => ?_)
        refine lv_dup hx hb dX1_receiveHello_128 rfl ?_
        refine lv_iconst (v := 0) hx hb dX1_receiveHello_129 (by decide) ?_
        refine lv_iconst (v := 3) hx hb dX1_receiveHello_130 (by decide) ?_
        refine hx_sI C0 hU hH h dX1_receiveHello_131 (fun w H locs hH h => ?_)
        refine lv_dup hx hb dX1_receiveHello_132 rfl ?_
        refine lv_iconst (v := 1) hx hb dX1_receiveHello_133 (by decide) ?_
        refine lv_iload_n hx hb dX1_receiveHello_134 rfl (lv_at hl 5 rfl) ?_
        refine hx_Si C0 hU hH (As := [.int x1]) (wk_X1_publicNumber l h) (va_cwS 1 hts (lw_S q698 q699 q60 q700) rfl rfl rfl (by decide +kernel) ⟨Nat.le_of_ble_eq_true rfl, Nat.le_of_ble_eq_true rfl⟩) rfl hl.1 rfl (Nat.le_of_ble_eq_true rfl) dX1_receiveHello_135 ⟨Nat.le_of_ble_eq_true rfl, Nat.le_of_ble_eq_true rfl⟩ (fun i_28 w H locs hH h => ?_)
        refine hx_sI C0 hU hH h dX1_receiveHello_138 (fun w H locs hH h => ?_)
        refine lv_dup hx hb dX1_receiveHello_139 rfl ?_
        refine lv_iconst (v := 2) hx hb dX1_receiveHello_140 (by decide) ?_
        refine hx_aload_n C0 dX1_receiveHello_141 rfl (lv_at hl 3 rfl) ?_
        refine lv_iconst (v := 4) hx hb dX1_receiveHello_142 (by decide) ?_
        refine hx_aI C0 hU hH h dX1_receiveHello_143 (fun i_29 h => ?_)
        refine hx_sI C0 hU hH h dX1_receiveHello_144 (fun w H locs hH h => ?_)
        refine hx_Si C0 hU hH (As := [va_rf (some b_27)]) (wk_X1_mix l h) (va_cwS 1 hts (lw_S q704 q705 q60 q706) rfl rfl rfl (by decide +kernel) ⟨Nat.le_of_ble_eq_true rfl, Nat.le_of_ble_eq_true rfl⟩) rfl hl.1 rfl (Nat.le_of_ble_eq_true rfl) dX1_receiveHello_145 ⟨Nat.le_of_ble_eq_true rfl, Nat.le_of_ble_eq_true rfl⟩ (fun i_30 w H locs hH h => ?_)
        refine lv_iconst (v := 3) hx hb dX1_receiveHello_148 (by decide) ?_
        refine hx_nI C0 hU hH (Nat.le_of_ble_eq_true rfl) (Nat.le_of_ble_eq_true rfl) (Nat.le_of_ble_eq_true rfl) h dX1_receiveHello_149 (fun b_31 w H locs hH h => ?_)
        refine lv_dup hx hb dX1_receiveHello_151 rfl ?_
        refine lv_iconst (v := 0) hx hb dX1_receiveHello_152 (by decide) ?_
        refine hx_aload_n C0 dX1_receiveHello_153 rfl (lv_at hl 3 rfl) ?_
        refine lv_iconst (v := 0) hx hb dX1_receiveHello_154 (by decide) ?_
        refine hx_aI C0 hU hH h dX1_receiveHello_155 (fun i_32 h => ?_)
        refine hx_sI C0 hU hH h dX1_receiveHello_156 (fun w H locs hH h => ?_)
        refine lv_dup hx hb dX1_receiveHello_157 rfl ?_
        refine lv_iconst (v := 1) hx hb dX1_receiveHello_158 (by decide) ?_
        refine lv_iload hx hb dX1_receiveHello_159 (lv_at hl 1 rfl) ?_
        refine hx_sI C0 hU hH h dX1_receiveHello_161 (fun w H locs hH h => ?_)
        refine lv_dup hx hb dX1_receiveHello_162 rfl ?_
        refine lv_iconst (v := 2) hx hb dX1_receiveHello_163 (by decide) ?_
        refine lv_iload hx hb dX1_receiveHello_164 (lv_at hl 0 rfl) ?_
        refine hx_sI C0 hU hH h dX1_receiveHello_166 (fun w H locs hH h => ?_)
        obtain ⟨ho, h⟩ := h
        refine hx_Vv C0 hU hH (As := [.int x1, .int i_26, .int (3 : Int32), .int i_30, va_rf (some b_31)]) (wk_X1_post l h) (cwV 5 hts (lw_V q644 q646 qs14 q60 q647) rfl rfl rfl (by decide +kernel) ⟨Nat.le_of_ble_eq_true rfl, Nat.le_of_ble_eq_true rfl⟩) (hx_recv hU hH (ci := 0) rfl ho) rfl hl.1 rfl (Nat.le_of_ble_eq_true rfl) dX1_receiveHello_167 ⟨Nat.le_of_ble_eq_true rfl, Nat.le_of_ble_eq_true rfl⟩ (fun w H locs hH h => ?_)
        refine lv_bipush (v := -7) hx hb dX1_receiveHello_170 (by decide) ?_
        exact hx_reti C0 hH hr hlocks h (Nat.le_of_ble_eq_true rfl) (Nat.le_of_ble_eq_true rfl) dX1_receiveHello_172
  · have h := h.2 c_7
    refine lv_iconst (v := -1) hx hb dX1_receiveHello_23 (by decide) ?_
    exact hx_reti C0 hH hr hlocks h (Nat.le_of_ble_eq_true rfl) (Nat.le_of_ble_eq_true rfl) dX1_receiveHello_24
def wp_X1_receiveReply (w : Hp) (a0 : Nat) (x1 : Int32) (a2 : Nat) (K : Hp → Int32 → Prop) : Prop :=
  gR w a2 4 4 fun r_1 => dR r_1 fun b_2 => aI w b_2 (1 : Int32) fun i_3 => isO w a0 0 <| wp_X1_flightTo w a0 x1 i_3 fun w i_4 => br (i_4 = (-1 : Int32)) (K w (-1 : Int32)) (gR w a0 0 6 fun r_6 => dR r_6 fun b_7 => aR w b_7 x1 fun r_8 => dR r_8 fun b_9 => aR w b_9 i_4 fun r_10 => dR r_10 fun b_11 => gR w b_11 2 4 fun r_12 => nI_ w (4 : Int32) 4 fun w b_13 => sI w b_13 (0 : Int32) (4 : Int32) fun w => dR r_12 fun b_14 => gI w b_14 5 2 fun i_15 => sI w b_13 (1 : Int32) i_15 fun w => aI w b_2 (2 : Int32) fun i_16 => gI w b_14 5 1 fun i_17 => wp_X1_power w i_16 i_17 fun w i_18 => sI w b_13 (2 : Int32) i_18 fun w => aI w b_2 (2 : Int32) fun i_19 => wp_X1_secretOf w x1 fun w i_20 => wp_X1_power w i_19 i_20 fun w i_21 => sI w b_13 (3 : Int32) i_21 fun w => wp_X1_mix w b_13 fun w i_22 => aI w b_2 (3 : Int32) fun i_23 => nI_ w (4 : Int32) 4 fun w b_24 => sI w b_24 (0 : Int32) (2 : Int32) fun w => aI w b_2 (0 : Int32) fun i_25 => sI w b_24 (1 : Int32) i_25 fun w => aI w b_2 (1 : Int32) fun i_26 => sI w b_24 (2 : Int32) i_26 fun w => aI w b_2 (2 : Int32) fun i_27 => sI w b_24 (3 : Int32) i_27 fun w => wp_X1_sealOf w i_22 b_24 fun w i_28 => br (i_23 = i_28) (pV w b_11 2 4 (va_rf none) fun w => gI w a2 4 0 fun i_30 => pV w b_11 2 0 (.int i_30) fun w => gR w b_11 2 2 fun r_31 => pV w b_11 2 1 (va_rf r_31) fun w => nO w 6 fsX7 fun w b_32 => aI w b_2 (1 : Int32) fun i_33 => aI w b_2 (0 : Int32) fun i_34 => gI w a0 0 0 fun i_35 => nI_ w (3 : Int32) 3 fun w b_36 => sI w b_36 (0 : Int32) (5 : Int32) fun w => sI w b_36 (1 : Int32) i_22 fun w => sI w b_36 (2 : Int32) (0 : Int32) fun w => wp_X1_mix w b_36 fun w i_37 => nI_ w (3 : Int32) 3 fun w b_38 => sI w b_38 (0 : Int32) (5 : Int32) fun w => sI w b_38 (1 : Int32) i_22 fun w => sI w b_38 (2 : Int32) (1 : Int32) fun w => wp_X1_mix w b_38 fun w i_39 => wp_X7_init w b_32 i_33 i_34 i_35 i_37 i_39 (1 : Int32) fun w => pV w b_11 2 2 (va_rf (some b_32)) fun w => gI w b_11 2 10 fun i_40 => br (i_40 = 0) (isO w a0 0 <| wp_X1_sendData w a0 x1 i_4 (-1 : Int32) (-1 : Int32) (-1 : Int32) fun w => K w (3 : Int32)) (isO w a0 0 <| wp_X1_flush w a0 x1 i_4 fun w => K w (3 : Int32))) (K w (-2 : Int32)))
abbrev rm_X1_receiveReply : Room := { frames := 11, cells := 31, slots := 1469, locals := 345 }
abbrev ws9_X1_receiveReply : List Cond := ws_ yX1_receiveReply cX1_receiveReply 8 (Option.some Jvm.ClassFile.FieldType.int)
abbrev Q9_X1_receiveReply (below : List Frame) (args : Array Value) (s : State) (G : hG) (K : Hp → Int32 → Prop) : State → Prop := MQ below (hx_Qi G K) args s 31 1469 (hx_A G)
set_option maxHeartbeats 4000000 in
set_option maxRecDepth 100000 in
theorem wk_X1_receiveReply (l : Launch) {G : hG} {w : Hp} {a0 : Nat} {x1 : Int32} {a2 : Nat} {K : Hp → Int32 → Prop} (h : wp_X1_receiveReply w a0 x1 a2 K) : hx_Mi l yX1_receiveReply (ws9_X1_receiveReply) rm_X1_receiveReply G w [.ref a0, .int x1, .ref a2] K 31 1469 := by
  refine Met.ofW (cc := cX1_receiveReply) (maxL := 8) (ret := (Option.some Jvm.ClassFile.FieldType.int)) (by decide +kernel) rfl ?_
  intro p e s m args below meth c s₁ B hml hv
  refine hx_in (own := RX1) (av := [.ref a0, .int x1, .ref a2]) (vl := [(0, va_rf (some a0)), (1, .int x1), (2, va_rf (some a2))]) rfl rfl (Nat.le_of_ble_eq_true rfl) rfl B hml hv ?_
  intro C0 hU hH hr hlocks hin ls hl
  have hx := C0.1
  have hb := C0.2.1
  have hts := C0.2.2.2.2
  refine hx_aload_n C0 dX1_receiveReply_0 rfl (lv_at hl 2 rfl) ?_
  refine hx_gRN C0 hU hH (ci := 4) rfl in_X5 4 (by decide) q661 (fun _ h9 => h9) h dX1_receiveReply_1 (fun r_1 h => ?_)
  refine hx_astore_n C0 dX1_receiveReply_4 rfl hl (by decide) (lv' := [(3, va_rf r_1), (0, va_rf (some a0)), (1, .int x1), (2, va_rf (some a2))]) rfl (fun ls hl => ?_)
  refine hx_aload_n C0 dX1_receiveReply_5 rfl (lv_at hl 1 rfl) ?_
  refine lv_iload_n hx hb dX1_receiveReply_6 rfl (lv_at hl 2 rfl) ?_
  refine hx_aload_n C0 dX1_receiveReply_7 rfl (lv_at hl 0 rfl) ?_
  refine lv_iconst (v := 1) hx hb dX1_receiveReply_8 (by decide) ?_
  obtain ⟨b_2, rfl, h9⟩ := h
  have h := h9
  clear h9
  refine hx_aI C0 hU hH h dX1_receiveReply_9 (fun i_3 h => ?_)
  obtain ⟨ho, h⟩ := h
  refine hx_Vi C0 hU hH (As := [.int x1, .int i_3]) (wk_X1_flightTo l h) (cwV 2 hts (lw_V q846 q848 qs26 q60 q849) rfl rfl rfl (by decide +kernel) ⟨Nat.le_of_ble_eq_true rfl, Nat.le_of_ble_eq_true rfl⟩) (hx_recv hU hH (ci := 0) rfl ho) rfl hl.1 rfl (Nat.le_of_ble_eq_true rfl) dX1_receiveReply_10 ⟨Nat.le_of_ble_eq_true rfl, Nat.le_of_ble_eq_true rfl⟩ (fun i_4 w H locs hH h => ?_)
  refine lv_istore hx hb dX1_receiveReply_13 hl (by decide) (lv' := [(4, .int i_4), (3, va_rf (some b_2)), (0, va_rf (some a0)), (1, .int x1), (2, va_rf (some a2))]) rfl (fun ls hl => ?_)
  refine lv_iload hx hb dX1_receiveReply_15 (lv_at hl 0 rfl) ?_
  refine lv_iconst (v := -1) hx hb dX1_receiveReply_17 (by decide) ?_
  refine lv_icmp_ne hx hb dX1_receiveReply_18 (tgt := 23) (by decide) (fun c_5 => ?_) (fun c_5 => ?_)
  · have h := h.2 c_5
    refine hx_aload_n C0 dX1_receiveReply_23 rfl (lv_at hl 2 rfl) ?_
    refine hx_gR C0 hU hH (ci := 0) rfl in_X1 6 (by decide) q269 (fun _ h9 => h9) h dX1_receiveReply_24 (fun r_6 h => ?_)
    refine lv_iload_n hx hb dX1_receiveReply_27 rfl (lv_at hl 3 rfl) ?_
    obtain ⟨b_7, rfl, h9⟩ := h
    have h := h9
    clear h9
    refine hx_aR C0 hU hH h dX1_receiveReply_28 (fun r_8 h => ?_)
    refine lv_iload hx hb dX1_receiveReply_29 (lv_at hl 0 rfl) ?_
    obtain ⟨b_9, rfl, h9⟩ := h
    have h := h9
    clear h9
    refine hx_aR C0 hU hH h dX1_receiveReply_31 (fun r_10 h => ?_)
    refine hx_astore C0 dX1_receiveReply_32 hl (by decide) (lv' := [(5, va_rf r_10), (4, .int i_4), (3, va_rf (some b_2)), (0, va_rf (some a0)), (1, .int x1), (2, va_rf (some a2))]) rfl (fun ls hl => ?_)
    refine hx_aload C0 dX1_receiveReply_34 (lv_at hl 0 rfl) ?_
    obtain ⟨b_11, rfl, h9⟩ := h
    have h := h9
    clear h9
    refine hx_gRN C0 hU hH (ci := 2) rfl in_X3 4 (by decide) q231 (fun _ h9 => h9) h dX1_receiveReply_36 (fun r_12 h => ?_)
    refine hx_astore C0 dX1_receiveReply_39 hl (by decide) (lv' := [(6, va_rf r_12), (5, va_rf (some b_11)), (4, .int i_4), (3, va_rf (some b_2)), (0, va_rf (some a0)), (1, .int x1), (2, va_rf (some a2))]) rfl (fun ls hl => ?_)
    refine lv_iconst (v := 4) hx hb dX1_receiveReply_41 (by decide) ?_
    refine hx_nI C0 hU hH (Nat.le_of_ble_eq_true rfl) (Nat.le_of_ble_eq_true rfl) (Nat.le_of_ble_eq_true rfl) h dX1_receiveReply_42 (fun b_13 w H locs hH h => ?_)
    refine lv_dup hx hb dX1_receiveReply_44 rfl ?_
    refine lv_iconst (v := 0) hx hb dX1_receiveReply_45 (by decide) ?_
    refine lv_iconst (v := 4) hx hb dX1_receiveReply_46 (by decide) ?_
    refine hx_sI C0 hU hH h dX1_receiveReply_47 (fun w H locs hH h => ?_)
    refine lv_dup hx hb dX1_receiveReply_48 rfl ?_
    refine lv_iconst (v := 1) hx hb dX1_receiveReply_49 (by decide) ?_
    refine hx_aload C0 dX1_receiveReply_50 (lv_at hl 0 rfl) ?_
    obtain ⟨b_14, rfl, h9⟩ := h
    have h := h9
    clear h9
    refine hx_gIN C0 hU hH (ci := 5) rfl in_X6 2 (by decide) q722 (fun _ h9 => h9) h dX1_receiveReply_52 (fun i_15 h => ?_)
    refine hx_sI C0 hU hH h dX1_receiveReply_55 (fun w H locs hH h => ?_)
    refine lv_dup hx hb dX1_receiveReply_56 rfl ?_
    refine lv_iconst (v := 2) hx hb dX1_receiveReply_57 (by decide) ?_
    refine hx_aload_n C0 dX1_receiveReply_58 rfl (lv_at hl 3 rfl) ?_
    refine lv_iconst (v := 2) hx hb dX1_receiveReply_59 (by decide) ?_
    refine hx_aI C0 hU hH h dX1_receiveReply_60 (fun i_16 h => ?_)
    refine hx_aload C0 dX1_receiveReply_61 (lv_at hl 0 rfl) ?_
    refine hx_gIN C0 hU hH (ci := 5) rfl in_X6 1 (by decide) q720 (fun _ h9 => h9) h dX1_receiveReply_63 (fun i_17 h => ?_)
    refine hx_Si C0 hU hH (As := [.int i_16, .int i_17]) (wk_X1_power l h) (va_cwS 2 hts (lw_S q694 q695 q60 q696) rfl rfl rfl (by decide +kernel) ⟨Nat.le_of_ble_eq_true rfl, Nat.le_of_ble_eq_true rfl⟩) rfl hl.1 rfl (Nat.le_of_ble_eq_true rfl) dX1_receiveReply_66 ⟨Nat.le_of_ble_eq_true rfl, Nat.le_of_ble_eq_true rfl⟩ (fun i_18 w H locs hH h => ?_)
    refine hx_sI C0 hU hH h dX1_receiveReply_69 (fun w H locs hH h => ?_)
    refine lv_dup hx hb dX1_receiveReply_70 rfl ?_
    refine lv_iconst (v := 3) hx hb dX1_receiveReply_71 (by decide) ?_
    refine hx_aload_n C0 dX1_receiveReply_72 rfl (lv_at hl 3 rfl) ?_
    refine lv_iconst (v := 2) hx hb dX1_receiveReply_73 (by decide) ?_
    refine hx_aI C0 hU hH h dX1_receiveReply_74 (fun i_19 h => ?_)
    refine lv_iload_n hx hb dX1_receiveReply_75 rfl (lv_at hl 5 rfl) ?_
    refine hx_Si C0 hU hH (As := [.int x1]) (wk_X1_secretOf l h) (va_cwS 1 hts (lw_S q701 q702 q60 q703) rfl rfl rfl (by decide +kernel) ⟨Nat.le_of_ble_eq_true rfl, Nat.le_of_ble_eq_true rfl⟩) rfl hl.1 rfl (Nat.le_of_ble_eq_true rfl) dX1_receiveReply_76 ⟨Nat.le_of_ble_eq_true rfl, Nat.le_of_ble_eq_true rfl⟩ (fun i_20 w H locs hH h => ?_)
    refine hx_Si C0 hU hH (As := [.int i_19, .int i_20]) (wk_X1_power l h) (va_cwS 2 hts (lw_S q694 q695 q60 q696) rfl rfl rfl (by decide +kernel) ⟨Nat.le_of_ble_eq_true rfl, Nat.le_of_ble_eq_true rfl⟩) rfl hl.1 rfl (Nat.le_of_ble_eq_true rfl) dX1_receiveReply_79 ⟨Nat.le_of_ble_eq_true rfl, Nat.le_of_ble_eq_true rfl⟩ (fun i_21 w H locs hH h => ?_)
    refine hx_sI C0 hU hH h dX1_receiveReply_82 (fun w H locs hH h => ?_)
    refine hx_Si C0 hU hH (As := [va_rf (some b_13)]) (wk_X1_mix l h) (va_cwS 1 hts (lw_S q704 q705 q60 q706) rfl rfl rfl (by decide +kernel) ⟨Nat.le_of_ble_eq_true rfl, Nat.le_of_ble_eq_true rfl⟩) rfl hl.1 rfl (Nat.le_of_ble_eq_true rfl) dX1_receiveReply_83 ⟨Nat.le_of_ble_eq_true rfl, Nat.le_of_ble_eq_true rfl⟩ (fun i_22 w H locs hH h => ?_)
    refine lv_istore hx hb dX1_receiveReply_86 hl (by decide) (lv' := [(7, .int i_22), (6, va_rf (some b_14)), (5, va_rf (some b_11)), (4, .int i_4), (3, va_rf (some b_2)), (0, va_rf (some a0)), (1, .int x1), (2, va_rf (some a2))]) rfl (fun ls hl => ?_)
    refine hx_aload_n C0 dX1_receiveReply_88 rfl (lv_at hl 4 rfl) ?_
    refine lv_iconst (v := 3) hx hb dX1_receiveReply_89 (by decide) ?_
    refine hx_aI C0 hU hH h dX1_receiveReply_90 (fun i_23 h => ?_)
    refine lv_iload hx hb dX1_receiveReply_91 (lv_at hl 0 rfl) ?_
    refine lv_iconst (v := 4) hx hb dX1_receiveReply_93 (by decide) ?_
    refine hx_nI C0 hU hH (Nat.le_of_ble_eq_true rfl) (Nat.le_of_ble_eq_true rfl) (Nat.le_of_ble_eq_true rfl) h dX1_receiveReply_94 (fun b_24 w H locs hH h => ?_)
    refine lv_dup hx hb dX1_receiveReply_96 rfl ?_
    refine lv_iconst (v := 0) hx hb dX1_receiveReply_97 (by decide) ?_
    refine lv_iconst (v := 2) hx hb dX1_receiveReply_98 (by decide) ?_
    refine hx_sI C0 hU hH h dX1_receiveReply_99 (fun w H locs hH h => ?_)
    refine lv_dup hx hb dX1_receiveReply_100 rfl ?_
    refine lv_iconst (v := 1) hx hb dX1_receiveReply_101 (by decide) ?_
    refine hx_aload_n C0 dX1_receiveReply_102 rfl (lv_at hl 4 rfl) ?_
    refine lv_iconst (v := 0) hx hb dX1_receiveReply_103 (by decide) ?_
    refine hx_aI C0 hU hH h dX1_receiveReply_104 (fun i_25 h => ?_)
    refine hx_sI C0 hU hH h dX1_receiveReply_105 (fun w H locs hH h => ?_)
    refine lv_dup hx hb dX1_receiveReply_106 rfl ?_
    refine lv_iconst (v := 2) hx hb dX1_receiveReply_107 (by decide) ?_
    refine hx_aload_n C0 dX1_receiveReply_108 rfl (lv_at hl 4 rfl) ?_
    refine lv_iconst (v := 1) hx hb dX1_receiveReply_109 (by decide) ?_
    refine hx_aI C0 hU hH h dX1_receiveReply_110 (fun i_26 h => ?_)
    refine hx_sI C0 hU hH h dX1_receiveReply_111 (fun w H locs hH h => ?_)
    refine lv_dup hx hb dX1_receiveReply_112 rfl ?_
    refine lv_iconst (v := 3) hx hb dX1_receiveReply_113 (by decide) ?_
    refine hx_aload_n C0 dX1_receiveReply_114 rfl (lv_at hl 4 rfl) ?_
    refine lv_iconst (v := 2) hx hb dX1_receiveReply_115 (by decide) ?_
    refine hx_aI C0 hU hH h dX1_receiveReply_116 (fun i_27 h => ?_)
    refine hx_sI C0 hU hH h dX1_receiveReply_117 (fun w H locs hH h => ?_)
    refine hx_Si C0 hU hH (As := [.int i_22, va_rf (some b_24)]) (wk_X1_sealOf l h) (va_cwS 2 hts (lw_S q643 q455 q60 q456) rfl rfl rfl (by decide +kernel) ⟨Nat.le_of_ble_eq_true rfl, Nat.le_of_ble_eq_true rfl⟩) rfl hl.1 rfl (Nat.le_of_ble_eq_true rfl) dX1_receiveReply_118 ⟨Nat.le_of_ble_eq_true rfl, Nat.le_of_ble_eq_true rfl⟩ (fun i_28 w H locs hH h => ?_)
    refine lv_icmp_eq hx hb dX1_receiveReply_121 (tgt := 127) (by decide) (fun c_29 => ?_) (fun c_29 => ?_)
    · have h := h.1 c_29
      refine hx_aload C0 dX1_receiveReply_127 (lv_at hl 2 rfl) ?_
      refine lv_null hx hb dX1_receiveReply_129 ?_
      refine hx_pVN C0 hU hH (ci := 2) rfl in_X3 tyX3 tyX3_ok nmX3 4 (by decide) q231 (fun _ h9 => h9) rfl (hx_fo _ none).1 (hx_fo _ none).2 h dX1_receiveReply_130 (fun w H locs hH h => ?_)
      refine hx_aload C0 dX1_receiveReply_133 (lv_at hl 2 rfl) ?_
      refine hx_aload_n C0 dX1_receiveReply_135 rfl (lv_at hl 7 rfl) ?_
      refine hx_gIN C0 hU hH (ci := 4) rfl in_X5 0 (by decide) q654 (fun _ h9 => h9) h dX1_receiveReply_136 (fun i_30 h => ?_)
      refine hx_pVN C0 hU hH (ci := 2) rfl in_X3 tyX3 tyX3_ok nmX3 0 (by decide) q224 (fun _ h9 => h9) rfl rfl rfl h dX1_receiveReply_139 (fun w H locs hH h => ?_)
      refine hx_aload C0 dX1_receiveReply_142 (lv_at hl 2 rfl) ?_
      refine hx_aload C0 dX1_receiveReply_144 (lv_at hl 2 rfl) ?_
      refine hx_gRN C0 hU hH (ci := 2) rfl in_X3 2 (by decide) q228 (fun _ h9 => h9) h dX1_receiveReply_146 (fun r_31 h => ?_)
      refine hx_pVN C0 hU hH (ci := 2) rfl in_X3 tyX3 tyX3_ok nmX3 1 (by decide) q226 (fun _ h9 => h9) rfl (hx_fo _ _).1 (hx_fo _ _).2 h dX1_receiveReply_149 (fun w H locs hH h => ?_)
      refine hx_aload C0 dX1_receiveReply_152 (lv_at hl 2 rfl) ?_
      refine hx_new C0 hU hH (ci := 6) rfl in_X7 tyX7 tyX7_ok q438 q442 q85 nfX7 (Nat.le_of_ble_eq_true rfl) (Nat.le_of_ble_eq_true rfl) h dX1_receiveReply_154 (fun b_32 w H locs hH h => ?_)
      refine lv_dup hx hb dX1_receiveReply_157 rfl ?_
      refine hx_aload_n C0 dX1_receiveReply_158 rfl (lv_at hl 4 rfl) ?_
      refine lv_iconst (v := 1) hx hb dX1_receiveReply_159 (by decide) ?_
      refine hx_aI C0 hU hH h dX1_receiveReply_160 (fun i_33 h => ?_)
      refine hx_aload_n C0 dX1_receiveReply_161 rfl (lv_at hl 4 rfl) ?_
      refine lv_iconst (v := 0) hx hb dX1_receiveReply_162 (by decide) ?_
      refine hx_aI C0 hU hH h dX1_receiveReply_163 (fun i_34 h => ?_)
      refine hx_aload_n C0 dX1_receiveReply_164 rfl (lv_at hl 5 rfl) ?_
      refine hx_gI C0 hU hH (ci := 0) rfl in_X1 0 (by decide) q263 (fun _ h9 => h9) h dX1_receiveReply_165 (fun i_35 h => ?_)
      refine lv_iconst (v := 3) hx hb dX1_receiveReply_168 (by decide) ?_
      refine hx_nI C0 hU hH (Nat.le_of_ble_eq_true rfl) (Nat.le_of_ble_eq_true rfl) (Nat.le_of_ble_eq_true rfl) h dX1_receiveReply_169 (fun b_36 w H locs hH h => ?_)
      refine lv_dup hx hb dX1_receiveReply_171 rfl ?_
      refine lv_iconst (v := 0) hx hb dX1_receiveReply_172 (by decide) ?_
      refine lv_iconst (v := 5) hx hb dX1_receiveReply_173 (by decide) ?_
      refine hx_sI C0 hU hH h dX1_receiveReply_174 (fun w H locs hH h => ?_)
      refine lv_dup hx hb dX1_receiveReply_175 rfl ?_
      refine lv_iconst (v := 1) hx hb dX1_receiveReply_176 (by decide) ?_
      refine lv_iload hx hb dX1_receiveReply_177 (lv_at hl 0 rfl) ?_
      refine hx_sI C0 hU hH h dX1_receiveReply_179 (fun w H locs hH h => ?_)
      refine lv_dup hx hb dX1_receiveReply_180 rfl ?_
      refine lv_iconst (v := 2) hx hb dX1_receiveReply_181 (by decide) ?_
      refine lv_iconst (v := 0) hx hb dX1_receiveReply_182 (by decide) ?_
      refine hx_sI C0 hU hH h dX1_receiveReply_183 (fun w H locs hH h => ?_)
      refine hx_Si C0 hU hH (As := [va_rf (some b_36)]) (wk_X1_mix l h) (va_cwS 1 hts (lw_S q704 q705 q60 q706) rfl rfl rfl (by decide +kernel) ⟨Nat.le_of_ble_eq_true rfl, Nat.le_of_ble_eq_true rfl⟩) rfl hl.1 rfl (Nat.le_of_ble_eq_true rfl) dX1_receiveReply_184 ⟨Nat.le_of_ble_eq_true rfl, Nat.le_of_ble_eq_true rfl⟩ (fun i_37 w H locs hH h => ?_)
      refine lv_iconst (v := 3) hx hb dX1_receiveReply_187 (by decide) ?_
      refine hx_nI C0 hU hH (Nat.le_of_ble_eq_true rfl) (Nat.le_of_ble_eq_true rfl) (Nat.le_of_ble_eq_true rfl) h dX1_receiveReply_188 (fun b_38 w H locs hH h => ?_)
      refine lv_dup hx hb dX1_receiveReply_190 rfl ?_
      refine lv_iconst (v := 0) hx hb dX1_receiveReply_191 (by decide) ?_
      refine lv_iconst (v := 5) hx hb dX1_receiveReply_192 (by decide) ?_
      refine hx_sI C0 hU hH h dX1_receiveReply_193 (fun w H locs hH h => ?_)
      refine lv_dup hx hb dX1_receiveReply_194 rfl ?_
      refine lv_iconst (v := 1) hx hb dX1_receiveReply_195 (by decide) ?_
      refine lv_iload hx hb dX1_receiveReply_196 (lv_at hl 0 rfl) ?_
      refine hx_sI C0 hU hH h dX1_receiveReply_198 (fun w H locs hH h => ?_)
      refine lv_dup hx hb dX1_receiveReply_199 rfl ?_
      refine lv_iconst (v := 2) hx hb dX1_receiveReply_200 (by decide) ?_
      refine lv_iconst (v := 1) hx hb dX1_receiveReply_201 (by decide) ?_
      refine hx_sI C0 hU hH h dX1_receiveReply_202 (fun w H locs hH h => ?_)
      refine hx_Si C0 hU hH (As := [va_rf (some b_38)]) (wk_X1_mix l h) (va_cwS 1 hts (lw_S q704 q705 q60 q706) rfl rfl rfl (by decide +kernel) ⟨Nat.le_of_ble_eq_true rfl, Nat.le_of_ble_eq_true rfl⟩) rfl hl.1 rfl (Nat.le_of_ble_eq_true rfl) dX1_receiveReply_203 ⟨Nat.le_of_ble_eq_true rfl, Nat.le_of_ble_eq_true rfl⟩ (fun i_39 w H locs hH h => ?_)
      refine lv_iconst (v := 1) hx hb dX1_receiveReply_206 (by decide) ?_
      refine hx_INv C0 hU hH (As := [.int i_33, .int i_34, .int i_35, .int i_37, .int i_39, .int (1 : Int32)]) (wk_X7_init l h) ⟨va_cnB 6 hts (lw_meth q800) rfl rfl rfl (hU.2.2.1 _ q798 rfl) (hts _ q85) (by decide +kernel) ⟨Nat.le_of_ble_eq_true rfl, Nat.le_of_ble_eq_true rfl⟩, rfl, hts _ q799⟩ rfl hl.1 rfl (Nat.le_of_ble_eq_true rfl) dX1_receiveReply_207 ⟨Nat.le_of_ble_eq_true rfl, Nat.le_of_ble_eq_true rfl⟩ (fun w H locs hH h => ?_)
      refine hx_pVN C0 hU hH (ci := 2) rfl in_X3 tyX3 tyX3_ok nmX3 2 (by decide) q228 (fun _ h9 => h9) rfl (hx_fo _ _).1 (hx_fo _ _).2 h dX1_receiveReply_210 (fun w H locs hH h => ?_)
      refine hx_aload C0 dX1_receiveReply_213 (lv_at hl 2 rfl) ?_
      refine hx_gIN C0 hU hH (ci := 2) rfl in_X3 10 (by decide) q239 (fun _ h9 => h9) h dX1_receiveReply_215 (fun i_40 h => ?_)
      refine lv_if_ne hx hb dX1_receiveReply_218 (tgt := 234) (by decide) (fun c_41 => ?_) (fun c_41 => ?_)
      · have h := h.2 c_41
        refine hx_aload_n C0 dX1_receiveReply_234 rfl (lv_at hl 5 rfl) ?_
        refine lv_iload_n hx hb dX1_receiveReply_235 rfl (lv_at hl 6 rfl) ?_
        refine lv_iload hx hb dX1_receiveReply_236 (lv_at hl 3 rfl) ?_
        obtain ⟨ho, h⟩ := h
        refine hx_Vv C0 hU hH (As := [.int x1, .int i_4]) (wk_X1_flush l h) (cwV 2 hts (lw_V q850 q852 qs27 q60 q853) rfl rfl rfl (by decide +kernel) ⟨Nat.le_of_ble_eq_true rfl, Nat.le_of_ble_eq_true rfl⟩) (hx_recv hU hH (ci := 0) rfl ho) rfl hl.1 rfl (Nat.le_of_ble_eq_true rfl) dX1_receiveReply_238 ⟨Nat.le_of_ble_eq_true rfl, Nat.le_of_ble_eq_true rfl⟩ (fun w H locs hH h => ?_)
        refine lv_iconst (v := 3) hx hb dX1_receiveReply_241 (by decide) ?_
        exact hx_reti C0 hH hr hlocks h (Nat.le_of_ble_eq_true rfl) (Nat.le_of_ble_eq_true rfl) dX1_receiveReply_242
      · have h := h.1 c_41
        refine hx_aload_n C0 dX1_receiveReply_221 rfl (lv_at hl 5 rfl) ?_
        refine lv_iload_n hx hb dX1_receiveReply_222 rfl (lv_at hl 6 rfl) ?_
        refine lv_iload hx hb dX1_receiveReply_223 (lv_at hl 3 rfl) ?_
        refine lv_iconst (v := -1) hx hb dX1_receiveReply_225 (by decide) ?_
        refine lv_iconst (v := -1) hx hb dX1_receiveReply_226 (by decide) ?_
        refine lv_iconst (v := -1) hx hb dX1_receiveReply_227 (by decide) ?_
        obtain ⟨ho, h⟩ := h
        refine hx_Vv C0 hU hH (As := [.int x1, .int i_4, .int (-1 : Int32), .int (-1 : Int32), .int (-1 : Int32)]) (wk_X1_sendData l h) (cwV 5 hts (lw_V q639 q641 qs13 q60 q642) rfl rfl rfl (by decide +kernel) ⟨Nat.le_of_ble_eq_true rfl, Nat.le_of_ble_eq_true rfl⟩) (hx_recv hU hH (ci := 0) rfl ho) rfl hl.1 rfl (Nat.le_of_ble_eq_true rfl) dX1_receiveReply_228 ⟨Nat.le_of_ble_eq_true rfl, Nat.le_of_ble_eq_true rfl⟩ (fun w H locs hH h => ?_)
        refine lv_goto hx hb dX1_receiveReply_231 (tgt := 241) (by decide) ?_
        refine lv_iconst (v := 3) hx hb dX1_receiveReply_241 (by decide) ?_
        exact hx_reti C0 hH hr hlocks h (Nat.le_of_ble_eq_true rfl) (Nat.le_of_ble_eq_true rfl) dX1_receiveReply_242
    · have h := h.2 c_29
      refine lv_bipush (v := -2) hx hb dX1_receiveReply_124 (by decide) ?_
      exact hx_reti C0 hH hr hlocks h (Nat.le_of_ble_eq_true rfl) (Nat.le_of_ble_eq_true rfl) dX1_receiveReply_126
  · have h := h.1 c_5
    refine lv_iconst (v := -1) hx hb dX1_receiveReply_21 (by decide) ?_
    exact hx_reti C0 hH hr hlocks h (Nat.le_of_ble_eq_true rfl) (Nat.le_of_ble_eq_true rfl) dX1_receiveReply_22
def wp_X1_receive (w : Hp) (a0 : Nat) (x1 : Int32) (a2 : Nat) (K : Hp → Int32 → Prop) : Prop :=
  gI w a2 4 2 fun i_1 => br (i_1 = 1) (isO w a0 0 <| wp_X1_receiveHello w a0 x1 a2 fun w i_2 => K w i_2) (br (i_1 = 2) (isO w a0 0 <| wp_X1_receiveReply w a0 x1 a2 fun w i_4 => K w i_4) (br (i_1 = 3) (isO w a0 0 <| wp_X1_receiveCookie w a0 x1 a2 fun w i_6 => K w i_6) (isO w a0 0 <| wp_X1_receiveData w a0 x1 a2 fun w i_8 => K w i_8)))
abbrev rm_X1_receive : Room := { frames := 13, cells := 31, slots := 1671, locals := 398 }
abbrev ws9_X1_receive : List Cond := ws_ yX1_receive cX1_receive 3 (Option.some Jvm.ClassFile.FieldType.int)
abbrev Q9_X1_receive (below : List Frame) (args : Array Value) (s : State) (G : hG) (K : Hp → Int32 → Prop) : State → Prop := MQ below (hx_Qi G K) args s 31 1671 (hx_A G)
set_option maxHeartbeats 4000000 in
set_option maxRecDepth 100000 in
theorem wk_X1_receive (l : Launch) {G : hG} {w : Hp} {a0 : Nat} {x1 : Int32} {a2 : Nat} {K : Hp → Int32 → Prop} (h : wp_X1_receive w a0 x1 a2 K) : hx_Mi l yX1_receive (ws9_X1_receive) rm_X1_receive G w [.ref a0, .int x1, .ref a2] K 31 1671 := by
  refine Met.ofW (cc := cX1_receive) (maxL := 3) (ret := (Option.some Jvm.ClassFile.FieldType.int)) (by decide +kernel) rfl ?_
  intro p e s m args below meth c s₁ B hml hv
  refine hx_in (own := RX1) (av := [.ref a0, .int x1, .ref a2]) (vl := [(0, va_rf (some a0)), (1, .int x1), (2, va_rf (some a2))]) rfl rfl (Nat.le_of_ble_eq_true rfl) rfl B hml hv ?_
  intro C0 hU hH hr hlocks hin ls hl
  have hx := C0.1
  have hb := C0.2.1
  have hts := C0.2.2.2.2
  refine hx_aload_n C0 dX1_receive_0 rfl (lv_at hl 2 rfl) ?_
  refine hx_gIN C0 hU hH (ci := 4) rfl in_X5 2 (by decide) q658 (fun _ h9 => h9) h dX1_receive_1 (fun i_1 h => ?_)
  by_cases c_3 : i_1 = 1
  · have h := h.1 c_3
    have zc_3 : (i_1).toInt = 1 := by rw [c_3]; rfl
    refine lv_tableIn hx hb dX1_receive_4 (by rw [zc_3]; decide) (by rw [zc_3]; decide) (by rw [zc_3]; rfl) (tgt := 32) (by decide) ?_
    refine hx_aload_n C0 dX1_receive_32 rfl (lv_at hl 0 rfl) ?_
    refine lv_iload_n hx hb dX1_receive_33 rfl (lv_at hl 1 rfl) ?_
    refine hx_aload_n C0 dX1_receive_34 rfl (lv_at hl 2 rfl) ?_
    obtain ⟨ho, h⟩ := h
    refine hx_Vi C0 hU hH (As := [.int x1, va_rf (some a2)]) (wk_X1_receiveHello l h) (cwV 2 hts (lw_V q790 q792 qs23 q60 q793) rfl rfl rfl (by decide +kernel) ⟨Nat.le_of_ble_eq_true rfl, Nat.le_of_ble_eq_true rfl⟩) (hx_recv hU hH (ci := 0) rfl ho) rfl hl.1 rfl (Nat.le_of_ble_eq_true rfl) dX1_receive_35 ⟨Nat.le_of_ble_eq_true rfl, Nat.le_of_ble_eq_true rfl⟩ (fun i_2 w H locs hH h => ?_)
    exact hx_reti C0 hH hr hlocks h (Nat.le_of_ble_eq_true rfl) (Nat.le_of_ble_eq_true rfl) dX1_receive_38
  have h := h.2 c_3
  have nc_3 : ¬ (i_1).toInt = 1 := hx_ni c_3 rfl
  by_cases c_5 : i_1 = 2
  · have h := h.1 c_5
    have zc_5 : (i_1).toInt = 2 := by rw [c_5]; rfl
    refine lv_tableIn hx hb dX1_receive_4 (by rw [zc_5]; decide) (by rw [zc_5]; decide) (by rw [zc_5]; rfl) (tgt := 39) (by decide) ?_
    refine hx_aload_n C0 dX1_receive_39 rfl (lv_at hl 0 rfl) ?_
    refine lv_iload_n hx hb dX1_receive_40 rfl (lv_at hl 1 rfl) ?_
    refine hx_aload_n C0 dX1_receive_41 rfl (lv_at hl 2 rfl) ?_
    obtain ⟨ho, h⟩ := h
    refine hx_Vi C0 hU hH (As := [.int x1, va_rf (some a2)]) (wk_X1_receiveReply l h) (cwV 2 hts (lw_V q842 q844 qs25 q60 q845) rfl rfl rfl (by decide +kernel) ⟨Nat.le_of_ble_eq_true rfl, Nat.le_of_ble_eq_true rfl⟩) (hx_recv hU hH (ci := 0) rfl ho) rfl hl.1 rfl (Nat.le_of_ble_eq_true rfl) dX1_receive_42 ⟨Nat.le_of_ble_eq_true rfl, Nat.le_of_ble_eq_true rfl⟩ (fun i_4 w H locs hH h => ?_)
    exact hx_reti C0 hH hr hlocks h (Nat.le_of_ble_eq_true rfl) (Nat.le_of_ble_eq_true rfl) dX1_receive_45
  have h := h.2 c_5
  have nc_5 : ¬ (i_1).toInt = 2 := hx_ni c_5 rfl
  by_cases c_7 : i_1 = 3
  · have h := h.1 c_7
    have zc_7 : (i_1).toInt = 3 := by rw [c_7]; rfl
    refine lv_tableIn hx hb dX1_receive_4 (by rw [zc_7]; decide) (by rw [zc_7]; decide) (by rw [zc_7]; rfl) (tgt := 46) (by decide) ?_
    refine hx_aload_n C0 dX1_receive_46 rfl (lv_at hl 0 rfl) ?_
    refine lv_iload_n hx hb dX1_receive_47 rfl (lv_at hl 1 rfl) ?_
    refine hx_aload_n C0 dX1_receive_48 rfl (lv_at hl 2 rfl) ?_
    obtain ⟨ho, h⟩ := h
    refine hx_Vi C0 hU hH (As := [.int x1, va_rf (some a2)]) (wk_X1_receiveCookie l h) (cwV 2 hts (lw_V q855 q857 qs28 q60 q858) rfl rfl rfl (by decide +kernel) ⟨Nat.le_of_ble_eq_true rfl, Nat.le_of_ble_eq_true rfl⟩) (hx_recv hU hH (ci := 0) rfl ho) rfl hl.1 rfl (Nat.le_of_ble_eq_true rfl) dX1_receive_49 ⟨Nat.le_of_ble_eq_true rfl, Nat.le_of_ble_eq_true rfl⟩ (fun i_6 w H locs hH h => ?_)
    exact hx_reti C0 hH hr hlocks h (Nat.le_of_ble_eq_true rfl) (Nat.le_of_ble_eq_true rfl) dX1_receive_52
  have h := h.2 c_7
  have nc_7 : ¬ (i_1).toInt = 3 := hx_ni c_7 rfl
  refine lv_tableOut hx hb dX1_receive_4 (by omega) (tgt := 53) (by decide) ?_
  refine hx_aload_n C0 dX1_receive_53 rfl (lv_at hl 0 rfl) ?_
  refine lv_iload_n hx hb dX1_receive_54 rfl (lv_at hl 1 rfl) ?_
  refine hx_aload_n C0 dX1_receive_55 rfl (lv_at hl 2 rfl) ?_
  obtain ⟨ho, h⟩ := h
  refine hx_Vi C0 hU hH (As := [.int x1, va_rf (some a2)]) (wk_X1_receiveData l h) (cwV 2 hts (lw_V q859 q861 qs29 q60 q862) rfl rfl rfl (by decide +kernel) ⟨Nat.le_of_ble_eq_true rfl, Nat.le_of_ble_eq_true rfl⟩) (hx_recv hU hH (ci := 0) rfl ho) rfl hl.1 rfl (Nat.le_of_ble_eq_true rfl) dX1_receive_56 ⟨Nat.le_of_ble_eq_true rfl, Nat.le_of_ble_eq_true rfl⟩ (fun i_8 w H locs hH h => ?_)
  exact hx_reti C0 hH hr hlocks h (Nat.le_of_ble_eq_true rfl) (Nat.le_of_ble_eq_true rfl) dX1_receive_59
def wp_X1_deliver_b50 (K : Hp → Int32 → Prop) (X : Hp → String → Prop) (bk22 : Hp → Nat → Option Nat → Int32 → Int32 → Prop) (w : Hp) (a0 : Nat) (a2 : Nat) (x3 : Int32) (x4 : Int32) : Prop :=
  nm (x4 + 1) fun i_1 => bk22 w a0 (some a2) x3 i_1
def wp_X1_deliver_s22 (K : Hp → Int32 → Prop) (X : Hp → String → Prop)  (bk22 : Hp → Nat → Option Nat → Int32 → Int32 → Prop) (w : Hp) (a0 : Nat) (r2 : Option Nat) (x3 : Int32) (x4 : Int32) : Prop :=
  br ((3 : Int32) ≤ x4) (gR w a0 0 9 fun r_2 => dR r_2 fun b_3 => aI w b_3 (x3 + (7 : Int32)) fun i_4 => sI w b_3 (x3 + (7 : Int32)) (i_4 + (1 : Int32)) fun w => gI w a0 0 2 fun i_5 => pV w a0 0 2 (.int (i_5 + (1 : Int32))) fun w => K w x3) (gR w a0 0 3 fun r_6 => dR r_6 fun b_7 => aI w b_7 x4 fun i_8 => dR r2 fun b_9 => gI w b_9 4 1 fun i_10 => br (i_8 = i_10) (isO w a0 0 <| wp_X1_receive w a0 x4 b_9 fun w i_12 => wp_X1_deliver_b50 K X bk22 w a0 b_9 i_12 x4) (wp_X1_deliver_b50 K X bk22 w a0 b_9 x3 x4))
def wp_X1_deliver_l22 (K : Hp → Int32 → Prop) (X : Hp → String → Prop)  : ((Hp × Nat × Option Nat × Int32 × Int32) → Prop) → (Hp × Nat × Option Nat × Int32 × Int32) → Prop := fun bk q => wp_X1_deliver_s22 K X  (fun w a0 r2 x3 x4 => bk (w, a0, r2, x3, x4)) q.1 q.2.1 q.2.2.1 q.2.2.2.1 q.2.2.2.2
def wp_X1_deliver_b22 (K : Hp → Int32 → Prop) (X : Hp → String → Prop)  (w : Hp) (a0 : Nat) (r2 : Option Nat) (x3 : Int32) (x4 : Int32) : Prop := lpN (wp_X1_deliver_l22 K X ) 4 (w, a0, r2, x3, x4)
def wp_X1_deliver (w : Hp) (a0 : Nat) (x1 : Int32) (X : Hp → String → Prop) (K : Hp → Int32 → Prop) : Prop :=
  isO w a0 0 <| wp_X1_checkLetter w a0 x1 X fun w => gR w a0 0 7 fun r_1 => dR r_1 fun b_2 => isO w b_2 7 <| wp_J2_remove w b_2 x1 fun w r_3 => ckO w r_3 4 <| wp_X1_deliver_b22 K X w a0 r_3 (0 : Int32) (0 : Int32)
abbrev rm_X1_deliver : Room := { frames := 14, cells := 125, slots := 6690, locals := 420 }
abbrev ws9_X1_deliver : List Cond := ws_ yX1_deliver cX1_deliver 5 (Option.some Jvm.ClassFile.FieldType.int)
abbrev Q9_X1_deliver (below : List Frame) (args : Array Value) (s : State) (G : hG) (K : Hp → Int32 → Prop) (X : Hp → String → Prop) : State → Prop := vx_MQ below (hx_Qi G K) (hx_XC G X) args s 125 6690 (hx_A G)
set_option maxHeartbeats 4000000 in
set_option maxRecDepth 100000 in
theorem wk_X1_deliver (l : Launch) (hst : l.stackTraces = false) {G : hG} {w : Hp} {a0 : Nat} {x1 : Int32} {K : Hp → Int32 → Prop} {X : Hp → String → Prop} (h : wp_X1_deliver w a0 x1 X K) : hx_xMi l yX1_deliver (ws9_X1_deliver) rm_X1_deliver G w [.ref a0, .int x1] K X 125 6690 := by
  refine vx_ofW (cc := cX1_deliver) (maxL := 5) (ret := (Option.some Jvm.ClassFile.FieldType.int)) (by decide +kernel) rfl ?_
  intro p e s m args below meth c s₁ B hml hex hv
  refine hx_in (own := RX1) (av := [.ref a0, .int x1]) (vl := [(0, va_rf (some a0)), (1, .int x1)]) rfl rfl (Nat.le_of_ble_eq_true rfl) rfl B hml hv ?_
  intro C0 hU hH hr hlocks hin ls hl
  have hx := C0.1
  have hb := C0.2.1
  have hts := C0.2.2.2.2
  have L22 : ∀ (n22 cl22 sl22 : Nat), cl22 + n22 * 31 ≤ 125 → sl22 + n22 * 1671 ≤ 6690 → ∀ (w : Hp) (a0 : Nat) (r2 : Option Nat) (x3 : Int32) (x4 : Int32), lpN (wp_X1_deliver_l22 K X ) n22 (w, a0, r2, x3, x4) → ∀ (H : Heap) (locs : List Loc) (ls : Array Slot), hx_H G w s H locs → lv_has ls 5 [(0, va_rf (some a0)), (2, va_rf r2), (3, .int x3), (4, .int x4)] → W p l e (headSpec (ws9_X1_deliver) rm_X1_deliver).room s m args below meth c H locs (cl22 + 0) (sl22 + 0) (Q9_X1_deliver below args s G K X) (F0 m 22 ls []) := by
    intro n22
    induction n22 with
    | zero => intro cl22 sl22 _ _ w a0 r2 x3 x4 h; exact h.elim
    | succ n22 ih22 =>
      intro cl22 sl22 hcl22 hsl22 w a0 r2 x3 x4 h H locs ls hH hl
      have h : wp_X1_deliver_s22 K X  (fun w a0 r2 x3 x4 => lpN (wp_X1_deliver_l22 K X ) n22 (w, a0, r2, x3, x4)) w a0 r2 x3 x4 := h
      have b50 : ∀ (w : Hp) (a0 : Nat) (a2 : Nat) (x3 : Int32) (x4 : Int32), wp_X1_deliver_b50 K X (fun w a0 r2 x3 x4 => lpN (wp_X1_deliver_l22 K X ) n22 (w, a0, r2, x3, x4)) w a0 a2 x3 x4 → ∀ (H : Heap) (locs : List Loc) (ls : Array Slot), hx_H G w s H locs → lv_has ls 5 [(0, va_rf (some a0)), (2, va_rf (some a2)), (3, .int x3), (4, .int x4)] → W p l e (headSpec (ws9_X1_deliver) rm_X1_deliver).room s m args below meth c H locs (cl22 + 31) (sl22 + 1671) (Q9_X1_deliver below args s G K X) (F0 m 50 ls []) := by
        intro w a0 a2 x3 x4 h H locs ls hH hl
        obtain ⟨i_1, ei_1⟩ : ∃ z, z = x4 + 1 := ⟨_, rfl⟩
        have h := h i_1 ei_1
        refine lv_iinc (k := 3) hx hb dX1_deliver_50 hl rfl (v := i_1) (by rw [ei_1]; rfl) (by decide) (lv' := [(4, .int i_1), (0, va_rf (some a0)), (2, va_rf (some a2)), (3, .int x3)]) rfl (fun ls hl => ?_)
        refine lv_goto hx hb dX1_deliver_53 (tgt := 22) (by decide) ?_
        refine W.widen (k := cl22 + 31) (n := sl22 + 1671) (by omega) (by omega) ?_
        exact ih22 _ _ (by omega) (by omega) _ _ _ _ _ h _ _ _ hH (lv_sub hl [1, 2, 3, 0] rfl)
      refine lv_iload hx hb dX1_deliver_22 (lv_at hl 3 rfl) ?_
      refine lv_iconst (v := 3) hx hb dX1_deliver_24 (by decide) ?_
      refine lv_icmp_ge hx hb dX1_deliver_25 (tgt := 56) (by decide) (fun c_1 => ?_) (fun c_1 => ?_)
      · have h := h.1 c_1
        refine hx_aload_n C0 dX1_deliver_56 rfl (lv_at hl 0 rfl) ?_
        refine hx_gR C0 hU hH (ci := 0) rfl in_X1 9 (by decide) q272 (fun _ h9 => h9) h dX1_deliver_57 (fun r_2 h => ?_)
        refine lv_iload_n hx hb dX1_deliver_60 rfl (lv_at hl 2 rfl) ?_
        refine lv_bipush (v := 7) hx hb dX1_deliver_61 (by decide) ?_
        refine lv_iadd hx hb dX1_deliver_63 ?_
        refine lv_dup2_11 hx hb dX1_deliver_64 rfl (hx_rfc _) ?_
        obtain ⟨b_3, rfl, h9⟩ := h
        have h := h9
        clear h9
        refine hx_aI C0 hU hH h dX1_deliver_65 (fun i_4 h => ?_)
        refine lv_iconst (v := 1) hx hb dX1_deliver_66 (by decide) ?_
        refine lv_iadd hx hb dX1_deliver_67 ?_
        refine hx_sI C0 hU hH h dX1_deliver_68 (fun w H locs hH h => ?_)
        refine hx_aload_n C0 dX1_deliver_69 rfl (lv_at hl 0 rfl) ?_
        refine lv_dup hx hb dX1_deliver_70 rfl ?_
        refine hx_gI C0 hU hH (ci := 0) rfl in_X1 2 (by decide) q265 (fun _ h9 => h9) h dX1_deliver_71 (fun i_5 h => ?_)
        refine lv_iconst (v := 1) hx hb dX1_deliver_74 (by decide) ?_
        refine lv_iadd hx hb dX1_deliver_75 ?_
        refine hx_pV C0 hU hH (ci := 0) rfl in_X1 tyX1 tyX1_ok nmX1 2 (by decide) q265 (fun _ h9 => h9) (Or.inl rfl) rfl rfl h dX1_deliver_76 (fun w H locs hH h => ?_)
        refine lv_iload_n hx hb dX1_deliver_79 rfl (lv_at hl 2 rfl) ?_
        exact hx_xreti C0 hH hr hlocks h (by omega) (by omega) dX1_deliver_80
      · have h := h.2 c_1
        refine hx_aload_n C0 dX1_deliver_28 rfl (lv_at hl 0 rfl) ?_
        refine hx_gR C0 hU hH (ci := 0) rfl in_X1 3 (by decide) q266 (fun _ h9 => h9) h dX1_deliver_29 (fun r_6 h => ?_)
        refine lv_iload hx hb dX1_deliver_32 (lv_at hl 3 rfl) ?_
        obtain ⟨b_7, rfl, h9⟩ := h
        have h := h9
        clear h9
        refine hx_aI C0 hU hH h dX1_deliver_34 (fun i_8 h => ?_)
        refine hx_aload_n C0 dX1_deliver_35 rfl (lv_at hl 1 rfl) ?_
        obtain ⟨b_9, rfl, h9⟩ := h
        have h := h9
        clear h9
        refine hx_gIN C0 hU hH (ci := 4) rfl in_X5 1 (by decide) q656 (fun _ h9 => h9) h dX1_deliver_36 (fun i_10 h => ?_)
        refine lv_icmp_ne hx hb dX1_deliver_39 (tgt := 50) (by decide) (fun c_11 => ?_) (fun c_11 => ?_)
        · have h := h.2 c_11
          refine W.widen (k := cl22 + 31) (n := sl22 + 1671) (by omega) (by omega) ?_
          exact b50 _ _ _ _ _ h _ _ _ hH (lv_sub hl [0, 1, 2, 3] rfl)
        · have h := h.1 c_11
          refine hx_aload_n C0 dX1_deliver_42 rfl (lv_at hl 0 rfl) ?_
          refine lv_iload hx hb dX1_deliver_43 (lv_at hl 3 rfl) ?_
          refine hx_aload_n C0 dX1_deliver_45 rfl (lv_at hl 1 rfl) ?_
          obtain ⟨ho, h⟩ := h
          refine hx_Vi C0 hU hH (As := [.int x4, va_rf (some b_9)]) (wk_X1_receive l h) (cwV 2 hts (lw_V q786 q788 qs22 q60 q789) rfl rfl rfl (by decide +kernel) ⟨Nat.le_of_ble_eq_true rfl, Nat.le_of_ble_eq_true rfl⟩) (hx_recv hU hH (ci := 0) rfl ho) rfl hl.1 rfl (Nat.le_of_ble_eq_true rfl) dX1_deliver_46 ⟨(show _ ≤ 125 by omega), (show _ ≤ 6690 by omega)⟩ (fun i_12 w H locs hH h => ?_)
          refine lv_istore_n hx hb dX1_deliver_49 rfl hl (by decide) (lv' := [(3, .int i_12), (0, va_rf (some a0)), (2, va_rf (some b_9)), (4, .int x4)]) rfl (fun ls hl => ?_)
          refine W.widen (k := cl22 + 31) (n := sl22 + 1671) (by omega) (by omega) ?_
          exact b50 _ _ _ _ _ h _ _ _ hH (lv_sub hl [1, 2, 0, 3] rfl)
  refine hx_aload_n C0 dX1_deliver_0 rfl (lv_at hl 0 rfl) ?_
  refine lv_iload_n hx hb dX1_deliver_1 rfl (lv_at hl 1 rfl) ?_
  obtain ⟨ho, h⟩ := h
  refine hx_xVv C0 hU hH (As := [.int x1]) (wk_X1_checkLetter l hst h) (cwV 1 hts (lw_V q772 q774 qs20 q60 q775) rfl rfl rfl (by decide +kernel) ⟨Nat.le_of_ble_eq_true rfl, Nat.le_of_ble_eq_true rfl⟩) (hx_recv hU hH (ci := 0) rfl ho) rfl hl.1 rfl (Nat.le_of_ble_eq_true rfl) dX1_deliver_2 ⟨Nat.le_of_ble_eq_true rfl, Nat.le_of_ble_eq_true rfl⟩ (fun E ce q9 w H locs hH hXE h1 h2 h3 => hx_xout hH hXE h1 h2 h3 hex hlocks (Nat.le_of_ble_eq_true rfl) (Nat.le_of_ble_eq_true rfl)) (fun w H locs hH h => ?_)
  refine hx_aload_n C0 dX1_deliver_5 rfl (lv_at hl 0 rfl) ?_
  refine hx_gR C0 hU hH (ci := 0) rfl in_X1 7 (by decide) q270 (fun _ h9 => h9) h dX1_deliver_6 (fun r_1 h => ?_)
  refine lv_iload_n hx hb dX1_deliver_9 rfl (lv_at hl 1 rfl) ?_
  obtain ⟨b_2, rfl, h9⟩ := h
  have h := h9
  clear h9
  obtain ⟨ho, h⟩ := h
  refine hx_Vq C0 hU hH (As := [.int x1]) (wk_J2_remove l h) (cwV 1 hts (lw_V q777 q778 q779 q63 q780) rfl rfl rfl (by decide +kernel) ⟨Nat.le_of_ble_eq_true rfl, Nat.le_of_ble_eq_true rfl⟩) (hx_recv hU hH (ci := 7) rfl ho) rfl hl.1 rfl (Nat.le_of_ble_eq_true rfl) dX1_deliver_10 ⟨Nat.le_of_ble_eq_true rfl, Nat.le_of_ble_eq_true rfl⟩ (fun r_3 w H locs hH h => ?_)
  refine hx_ckO C0 hU hH (ci := 4) rfl q444 h dX1_deliver_13 (fun h => ?_)
  refine hx_astore_n C0 dX1_deliver_16 rfl hl (by decide) (lv' := [(2, va_rf r_3), (0, va_rf (some a0)), (1, .int x1)]) rfl (fun ls hl => ?_)
  refine lv_iconst (v := 0) hx hb dX1_deliver_17 (by decide) ?_
  refine lv_istore_n hx hb dX1_deliver_18 rfl hl (by decide) (lv' := [(3, .int (0 : Int32)), (2, va_rf r_3), (0, va_rf (some a0)), (1, .int x1)]) (by cases r_3 <;> rfl) (fun ls hl => ?_)
  refine lv_iconst (v := 0) hx hb dX1_deliver_19 (by decide) ?_
  refine lv_istore hx hb dX1_deliver_20 hl (by decide) (lv' := [(4, .int (0 : Int32)), (3, .int (0 : Int32)), (2, va_rf r_3), (0, va_rf (some a0)), (1, .int x1)]) rfl (fun ls hl => ?_)
  refine W.widen (k := 1) (n := 6) (Nat.le_of_ble_eq_true rfl) (Nat.le_of_ble_eq_true rfl) ?_
  exact L22 4 (1) (6) (Nat.le_of_ble_eq_true rfl) (Nat.le_of_ble_eq_true rfl) _ _ _ _ _ h _ _ _ hH (lv_sub hl [3, 2, 1, 0] rfl)
def wp_X1_lose (w : Hp) (a0 : Nat) (x1 : Int32) (X : Hp → String → Prop) (K : Hp → Int32 → Prop) : Prop :=
  isO w a0 0 <| wp_X1_checkLetter w a0 x1 X fun w => gR w a0 0 7 fun r_1 => dR r_1 fun b_2 => isO w b_2 7 <| wp_J2_remove w b_2 x1 fun w r_3 => gR w a0 0 7 fun r_4 => dR r_4 fun b_5 => isO w b_5 7 <| wp_J2_size w b_5 fun w i_6 => K w i_6
abbrev rm_X1_lose : Room := { frames := 7, cells := 1, slots := 6, locals := 106 }
abbrev ws9_X1_lose : List Cond := ws_ yX1_lose cX1_lose 2 (Option.some Jvm.ClassFile.FieldType.int)
abbrev Q9_X1_lose (below : List Frame) (args : Array Value) (s : State) (G : hG) (K : Hp → Int32 → Prop) (X : Hp → String → Prop) : State → Prop := vx_MQ below (hx_Qi G K) (hx_XC G X) args s 1 6 (hx_A G)
set_option maxHeartbeats 4000000 in
set_option maxRecDepth 100000 in
theorem wk_X1_lose (l : Launch) (hst : l.stackTraces = false) {G : hG} {w : Hp} {a0 : Nat} {x1 : Int32} {K : Hp → Int32 → Prop} {X : Hp → String → Prop} (h : wp_X1_lose w a0 x1 X K) : hx_xMi l yX1_lose (ws9_X1_lose) rm_X1_lose G w [.ref a0, .int x1] K X 1 6 := by
  refine vx_ofW (cc := cX1_lose) (maxL := 2) (ret := (Option.some Jvm.ClassFile.FieldType.int)) (by decide +kernel) rfl ?_
  intro p e s m args below meth c s₁ B hml hex hv
  refine hx_in (own := RX1) (av := [.ref a0, .int x1]) (vl := [(0, va_rf (some a0)), (1, .int x1)]) rfl rfl (Nat.le_of_ble_eq_true rfl) rfl B hml hv ?_
  intro C0 hU hH hr hlocks hin ls hl
  have hx := C0.1
  have hb := C0.2.1
  have hts := C0.2.2.2.2
  refine hx_aload_n C0 dX1_lose_0 rfl (lv_at hl 0 rfl) ?_
  refine lv_iload_n hx hb dX1_lose_1 rfl (lv_at hl 1 rfl) ?_
  obtain ⟨ho, h⟩ := h
  refine hx_xVv C0 hU hH (As := [.int x1]) (wk_X1_checkLetter l hst h) (cwV 1 hts (lw_V q772 q774 qs20 q60 q775) rfl rfl rfl (by decide +kernel) ⟨Nat.le_of_ble_eq_true rfl, Nat.le_of_ble_eq_true rfl⟩) (hx_recv hU hH (ci := 0) rfl ho) rfl hl.1 rfl (Nat.le_of_ble_eq_true rfl) dX1_lose_2 ⟨Nat.le_of_ble_eq_true rfl, Nat.le_of_ble_eq_true rfl⟩ (fun E ce q9 w H locs hH hXE h1 h2 h3 => hx_xout hH hXE h1 h2 h3 hex hlocks (Nat.le_of_ble_eq_true rfl) (Nat.le_of_ble_eq_true rfl)) (fun w H locs hH h => ?_)
  refine hx_aload_n C0 dX1_lose_5 rfl (lv_at hl 0 rfl) ?_
  refine hx_gR C0 hU hH (ci := 0) rfl in_X1 7 (by decide) q270 (fun _ h9 => h9) h dX1_lose_6 (fun r_1 h => ?_)
  refine lv_iload_n hx hb dX1_lose_9 rfl (lv_at hl 1 rfl) ?_
  obtain ⟨b_2, rfl, h9⟩ := h
  have h := h9
  clear h9
  obtain ⟨ho, h⟩ := h
  refine hx_Vq C0 hU hH (As := [.int x1]) (wk_J2_remove l h) (cwV 1 hts (lw_V q777 q778 q779 q63 q780) rfl rfl rfl (by decide +kernel) ⟨Nat.le_of_ble_eq_true rfl, Nat.le_of_ble_eq_true rfl⟩) (hx_recv hU hH (ci := 7) rfl ho) rfl hl.1 rfl (Nat.le_of_ble_eq_true rfl) dX1_lose_10 ⟨Nat.le_of_ble_eq_true rfl, Nat.le_of_ble_eq_true rfl⟩ (fun r_3 w H locs hH h => ?_)
  refine lv_pop hx hb dX1_lose_13 (hx_rfc _) ?_
  refine hx_aload_n C0 dX1_lose_14 rfl (lv_at hl 0 rfl) ?_
  refine hx_gR C0 hU hH (ci := 0) rfl in_X1 7 (by decide) q270 (fun _ h9 => h9) h dX1_lose_15 (fun r_4 h => ?_)
  obtain ⟨b_5, rfl, h9⟩ := h
  have h := h9
  clear h9
  obtain ⟨ho, h⟩ := h
  refine hx_Vi C0 hU hH (As := []) (wk_J2_size l h) (cwV 0 hts (lw_V q302 q303 q304 q63 q305) rfl rfl rfl (by decide +kernel) ⟨Nat.le_of_ble_eq_true rfl, Nat.le_of_ble_eq_true rfl⟩) (hx_recv hU hH (ci := 7) rfl ho) rfl hl.1 rfl (Nat.le_of_ble_eq_true rfl) dX1_lose_18 ⟨Nat.le_of_ble_eq_true rfl, Nat.le_of_ble_eq_true rfl⟩ (fun i_6 w H locs hH h => ?_)
  exact hx_xreti C0 hH hr hlocks h (Nat.le_of_ble_eq_true rfl) (Nat.le_of_ble_eq_true rfl) dX1_lose_21
def wp_X1_twice (w : Hp) (a0 : Nat) (x1 : Int32) (X : Hp → String → Prop) (K : Hp → Int32 → Prop) : Prop :=
  isO w a0 0 <| wp_X1_checkLetter w a0 x1 X fun w => gR w a0 0 7 fun r_1 => dR r_1 fun b_2 => isO w b_2 7 <| wp_J2_size w b_2 fun w i_3 => br (i_3 < (60 : Int32)) (gR w a0 0 7 fun r_5 => nO w 4 fsX5 fun w b_6 => gR w a0 0 7 fun r_7 => dR r_7 fun b_8 => isO w b_8 7 <| wp_J2_get w b_8 x1 fun w r_9 => ckO w r_9 4 <| dR r_9 fun b_10 => wp_X5_init_2 w b_6 b_10 fun w => dR r_5 fun b_11 => isO w b_11 7 <| wp_J2_add w b_11 b_6 fun w i_12 => gR w a0 0 7 fun r_13 => dR r_13 fun b_14 => isO w b_14 7 <| wp_J2_size w b_14 fun w i_15 => K w i_15) (X w eIS)
abbrev rm_X1_twice : Room := { frames := 8, cells := 4, slots := 275, locals := 268 }
abbrev ws9_X1_twice : List Cond := ws_ yX1_twice cX1_twice 2 (Option.some Jvm.ClassFile.FieldType.int)
abbrev Q9_X1_twice (below : List Frame) (args : Array Value) (s : State) (G : hG) (K : Hp → Int32 → Prop) (X : Hp → String → Prop) : State → Prop := vx_MQ below (hx_Qi G K) (hx_XC G X) args s 4 275 (hx_A G)
set_option maxHeartbeats 4000000 in
set_option maxRecDepth 100000 in
theorem wk_X1_twice (l : Launch) (hst : l.stackTraces = false) {G : hG} {w : Hp} {a0 : Nat} {x1 : Int32} {K : Hp → Int32 → Prop} {X : Hp → String → Prop} (h : wp_X1_twice w a0 x1 X K) : hx_xMi l yX1_twice (ws9_X1_twice) rm_X1_twice G w [.ref a0, .int x1] K X 4 275 := by
  refine vx_ofW (cc := cX1_twice) (maxL := 2) (ret := (Option.some Jvm.ClassFile.FieldType.int)) (by decide +kernel) rfl ?_
  intro p e s m args below meth c s₁ B hml hex hv
  refine hx_in (own := RX1) (av := [.ref a0, .int x1]) (vl := [(0, va_rf (some a0)), (1, .int x1)]) rfl rfl (Nat.le_of_ble_eq_true rfl) rfl B hml hv ?_
  intro C0 hU hH hr hlocks hin ls hl
  have hx := C0.1
  have hb := C0.2.1
  have hts := C0.2.2.2.2
  refine hx_aload_n C0 dX1_twice_0 rfl (lv_at hl 0 rfl) ?_
  refine lv_iload_n hx hb dX1_twice_1 rfl (lv_at hl 1 rfl) ?_
  obtain ⟨ho, h⟩ := h
  refine hx_xVv C0 hU hH (As := [.int x1]) (wk_X1_checkLetter l hst h) (cwV 1 hts (lw_V q772 q774 qs20 q60 q775) rfl rfl rfl (by decide +kernel) ⟨Nat.le_of_ble_eq_true rfl, Nat.le_of_ble_eq_true rfl⟩) (hx_recv hU hH (ci := 0) rfl ho) rfl hl.1 rfl (Nat.le_of_ble_eq_true rfl) dX1_twice_2 ⟨Nat.le_of_ble_eq_true rfl, Nat.le_of_ble_eq_true rfl⟩ (fun E ce q9 w H locs hH hXE h1 h2 h3 => hx_xout hH hXE h1 h2 h3 hex hlocks (Nat.le_of_ble_eq_true rfl) (Nat.le_of_ble_eq_true rfl)) (fun w H locs hH h => ?_)
  refine hx_aload_n C0 dX1_twice_5 rfl (lv_at hl 0 rfl) ?_
  refine hx_gR C0 hU hH (ci := 0) rfl in_X1 7 (by decide) q270 (fun _ h9 => h9) h dX1_twice_6 (fun r_1 h => ?_)
  obtain ⟨b_2, rfl, h9⟩ := h
  have h := h9
  clear h9
  obtain ⟨ho, h⟩ := h
  refine hx_Vi C0 hU hH (As := []) (wk_J2_size l h) (cwV 0 hts (lw_V q302 q303 q304 q63 q305) rfl rfl rfl (by decide +kernel) ⟨Nat.le_of_ble_eq_true rfl, Nat.le_of_ble_eq_true rfl⟩) (hx_recv hU hH (ci := 7) rfl ho) rfl hl.1 rfl (Nat.le_of_ble_eq_true rfl) dX1_twice_9 ⟨Nat.le_of_ble_eq_true rfl, Nat.le_of_ble_eq_true rfl⟩ (fun i_3 w H locs hH h => ?_)
  refine lv_bipush (v := 60) hx hb dX1_twice_12 (by decide) ?_
  refine lv_icmp_lt hx hb dX1_twice_14 (tgt := 27) (by decide) (fun c_4 => ?_) (fun c_4 => ?_)
  · have h := h.1 c_4
    refine hx_aload_n C0 dX1_twice_27 rfl (lv_at hl 0 rfl) ?_
    refine hx_gR C0 hU hH (ci := 0) rfl in_X1 7 (by decide) q270 (fun _ h9 => h9) h dX1_twice_28 (fun r_5 h => ?_)
    refine hx_new C0 hU hH (ci := 4) rfl in_X5 tyX5 tyX5_ok q444 q448 q81 nfX5 (Nat.le_of_ble_eq_true rfl) (Nat.le_of_ble_eq_true rfl) h dX1_twice_31 (fun b_6 w H locs hH h => ?_)
    refine lv_dup hx hb dX1_twice_34 rfl ?_
    refine hx_aload_n C0 dX1_twice_35 rfl (lv_at hl 0 rfl) ?_
    refine hx_gR C0 hU hH (ci := 0) rfl in_X1 7 (by decide) q270 (fun _ h9 => h9) h dX1_twice_36 (fun r_7 h => ?_)
    refine lv_iload_n hx hb dX1_twice_39 rfl (lv_at hl 1 rfl) ?_
    obtain ⟨b_8, rfl, h9⟩ := h
    have h := h9
    clear h9
    obtain ⟨ho, h⟩ := h
    refine hx_Vq C0 hU hH (As := [.int x1]) (wk_J2_get l h) (cwV 1 hts (lw_V q468 q469 q470 q63 q471) rfl rfl rfl (by decide +kernel) ⟨Nat.le_of_ble_eq_true rfl, Nat.le_of_ble_eq_true rfl⟩) (hx_recv hU hH (ci := 7) rfl ho) rfl hl.1 rfl (by cases r_5 <;> exact Nat.le_of_ble_eq_true rfl) dX1_twice_40 ⟨Nat.le_of_ble_eq_true rfl, Nat.le_of_ble_eq_true rfl⟩ (fun r_9 w H locs hH h => ?_)
    refine hx_ckO C0 hU hH (ci := 4) rfl q444 h dX1_twice_43 (fun h => ?_)
    obtain ⟨b_10, rfl, h9⟩ := h
    have h := h9
    clear h9
    refine hx_INv C0 hU hH (As := [va_rf (some b_10)]) (wk_X5_init_2 l h) ⟨va_cnB 1 hts (lw_meth q892) rfl rfl rfl (hU.2.2.1 _ q890 rfl) (hts _ q81) (by decide +kernel) ⟨Nat.le_of_ble_eq_true rfl, Nat.le_of_ble_eq_true rfl⟩, rfl, hts _ q891⟩ rfl hl.1 rfl (by cases r_5 <;> exact Nat.le_of_ble_eq_true rfl) dX1_twice_46 ⟨Nat.le_of_ble_eq_true rfl, Nat.le_of_ble_eq_true rfl⟩ (fun w H locs hH h => ?_)
    obtain ⟨b_11, rfl, h9⟩ := h
    have h := h9
    clear h9
    obtain ⟨ho, h⟩ := h
    refine hx_Vi C0 hU hH (As := [va_rf (some b_6)]) (wk_J2_add l h) (cwV 1 hts (lw_V q154 q155 q156 q63 q157) rfl rfl rfl (by decide +kernel) ⟨Nat.le_of_ble_eq_true rfl, Nat.le_of_ble_eq_true rfl⟩) (hx_recv hU hH (ci := 7) rfl ho) rfl hl.1 rfl (Nat.le_of_ble_eq_true rfl) dX1_twice_49 ⟨Nat.le_of_ble_eq_true rfl, Nat.le_of_ble_eq_true rfl⟩ (fun i_12 w H locs hH h => ?_)
    refine lv_pop hx hb dX1_twice_52 rfl ?_
    refine hx_aload_n C0 dX1_twice_53 rfl (lv_at hl 0 rfl) ?_
    refine hx_gR C0 hU hH (ci := 0) rfl in_X1 7 (by decide) q270 (fun _ h9 => h9) h dX1_twice_54 (fun r_13 h => ?_)
    obtain ⟨b_14, rfl, h9⟩ := h
    have h := h9
    clear h9
    obtain ⟨ho, h⟩ := h
    refine hx_Vi C0 hU hH (As := []) (wk_J2_size l h) (cwV 0 hts (lw_V q302 q303 q304 q63 q305) rfl rfl rfl (by decide +kernel) ⟨Nat.le_of_ble_eq_true rfl, Nat.le_of_ble_eq_true rfl⟩) (hx_recv hU hH (ci := 7) rfl ho) rfl hl.1 rfl (Nat.le_of_ble_eq_true rfl) dX1_twice_57 ⟨Nat.le_of_ble_eq_true rfl, Nat.le_of_ble_eq_true rfl⟩ (fun i_15 w H locs hH h => ?_)
    exact hx_xreti C0 hH hr hlocks h (Nat.le_of_ble_eq_true rfl) (Nat.le_of_ble_eq_true rfl) dX1_twice_60
  · have h := h.2 c_4
    exact hx_throw C0 hU hH hst (text := "full") (cls := eIS) (names := hx_names) hl.1 rfl hx_names_fit q522 q76 q608 hat_eIS good_eIS_63 dX1_twice_17 dX1_twice_20 dX1_twice_21 dX1_twice_23 dX1_twice_26 hex hlocks h (Nat.le_of_ble_eq_true rfl) (Nat.le_of_ble_eq_true rfl) (Nat.le_of_ble_eq_true rfl) (Nat.le_of_ble_eq_true rfl) (Nat.le_of_ble_eq_true rfl) (Nat.le_of_ble_eq_true rfl)
def wp_X1_turn_b143 (K : Hp → Int32 → Prop) (X : Hp → String → Prop)  (w : Hp) (x2 : Int32) (x3 : Int32) (a4 : Nat) : Prop :=
  gR w a4 4 4 fun r_1 => dR r_1 fun b_2 => aI w b_2 x2 fun i_3 => sI w b_2 x2 (i_3 + x3) fun w => gR w a4 4 4 fun r_4 => dR r_4 fun b_5 => aI w b_5 x2 fun i_6 => K w i_6
def wp_X1_turn_b116 (K : Hp → Int32 → Prop) (X : Hp → String → Prop)  (w : Hp) (x2 : Int32) (x3 : Int32) (a4 : Nat) : Prop :=
  gI w a4 4 5 fun i_1 => br (i_1 = (-1 : Int32)) (pV w a4 4 5 (.int x2) fun w => gR w a4 4 4 fun r_3 => dR r_3 fun b_4 => aI w b_4 x2 fun i_5 => pV w a4 4 6 (.int i_5) fun w => wp_X1_turn_b143 K X w x2 x3 a4) (wp_X1_turn_b143 K X w x2 x3 a4)
def wp_X1_turn_b88 (K : Hp → Int32 → Prop) (X : Hp → String → Prop)  (w : Hp) (x2 : Int32) (x3 : Int32) (a4 : Nat) : Prop :=
  gI w a4 4 5 fun i_1 => br (i_1 = (-1 : Int32)) (wp_X1_turn_b116 K X w x2 x3 a4) (gI w a4 4 5 fun i_3 => br (i_3 = x2) (wp_X1_turn_b116 K X w x2 x3 a4) (X w eIS))
def wp_X1_turn_b78 (K : Hp → Int32 → Prop) (X : Hp → String → Prop)  (w : Hp)  : Prop :=
  X w eIA
def wp_X1_turn (w : Hp) (a0 : Nat) (x1 : Int32) (x2 : Int32) (x3 : Int32) (X : Hp → String → Prop) (K : Hp → Int32 → Prop) : Prop :=
  isO w a0 0 <| wp_X1_checkLetter w a0 x1 X fun w => gR w a0 0 7 fun r_1 => dR r_1 fun b_2 => isO w b_2 7 <| wp_J2_get w b_2 x1 fun w r_3 => ckO w r_3 4 <| dR r_3 fun b_4 => isO w b_4 4 <| wp_X5_mayTurn w b_4 x2 fun w i_5 => br (i_5 = 0) (wp_X1_turn_b78 K X w) (br (x3 = 0) (wp_X1_turn_b78 K X w) (br (x3 < (-500 : Int32)) (wp_X1_turn_b78 K X w) (br ((500 : Int32) < x3) (wp_X1_turn_b78 K X w) (gI w b_4 4 5 fun i_10 => br (i_10 = x2) (gR w b_4 4 4 fun r_12 => dR r_12 fun b_13 => aI w b_13 x2 fun i_14 => gI w b_4 4 6 fun i_15 => wp_J4_abs w ((i_14 + x3) - i_15) fun w i_16 => br (i_16 ≤ (10000 : Int32)) (wp_X1_turn_b88 K X w x2 x3 b_4) (wp_X1_turn_b78 K X w)) (wp_X1_turn_b88 K X w x2 x3 b_4)))))
abbrev rm_X1_turn : Room := { frames := 7, cells := 2, slots := 12, locals := 103 }
abbrev ws9_X1_turn : List Cond := ws_ yX1_turn cX1_turn 5 (Option.some Jvm.ClassFile.FieldType.int)
abbrev Q9_X1_turn (below : List Frame) (args : Array Value) (s : State) (G : hG) (K : Hp → Int32 → Prop) (X : Hp → String → Prop) : State → Prop := vx_MQ below (hx_Qi G K) (hx_XC G X) args s 2 12 (hx_A G)
set_option maxHeartbeats 4000000 in
set_option maxRecDepth 100000 in
theorem wk_X1_turn (l : Launch) (hst : l.stackTraces = false) {G : hG} {w : Hp} {a0 : Nat} {x1 : Int32} {x2 : Int32} {x3 : Int32} {K : Hp → Int32 → Prop} {X : Hp → String → Prop} (h : wp_X1_turn w a0 x1 x2 x3 X K) : hx_xMi l yX1_turn (ws9_X1_turn) rm_X1_turn G w [.ref a0, .int x1, .int x2, .int x3] K X 2 12 := by
  refine vx_ofW (cc := cX1_turn) (maxL := 5) (ret := (Option.some Jvm.ClassFile.FieldType.int)) (by decide +kernel) rfl ?_
  intro p e s m args below meth c s₁ B hml hex hv
  refine hx_in (own := RX1) (av := [.ref a0, .int x1, .int x2, .int x3]) (vl := [(0, va_rf (some a0)), (1, .int x1), (2, .int x2), (3, .int x3)]) rfl rfl (Nat.le_of_ble_eq_true rfl) rfl B hml hv ?_
  intro C0 hU hH hr hlocks hin ls hl
  have hx := C0.1
  have hb := C0.2.1
  have hts := C0.2.2.2.2
  have b143 : ∀ (w : Hp) (x2 : Int32) (x3 : Int32) (a4 : Nat), wp_X1_turn_b143 K X  w x2 x3 a4 → ∀ (H : Heap) (locs : List Loc) (ls : Array Slot), hx_H G w s H locs → lv_has ls 5 [(2, .int x2), (3, .int x3), (4, va_rf (some a4))] → W p l e (headSpec (ws9_X1_turn) rm_X1_turn).room s m args below meth c H locs (1) (6) (Q9_X1_turn below args s G K X) (F0 m 143 ls []) := by
    intro w x2 x3 a4 h H locs ls hH hl
    refine hx_aload C0 dX1_turn_143 (lv_at hl 2 rfl) ?_
    refine hx_gRN C0 hU hH (ci := 4) rfl in_X5 4 (by decide) q661 (fun _ h9 => h9) h dX1_turn_145 (fun r_1 h => ?_)
    refine lv_iload_n hx hb dX1_turn_148 rfl (lv_at hl 0 rfl) ?_
    refine lv_dup2_11 hx hb dX1_turn_149 rfl (hx_rfc _) ?_
    obtain ⟨b_2, rfl, h9⟩ := h
    have h := h9
    clear h9
    refine hx_aI C0 hU hH h dX1_turn_150 (fun i_3 h => ?_)
    refine lv_iload_n hx hb dX1_turn_151 rfl (lv_at hl 1 rfl) ?_
    refine lv_iadd hx hb dX1_turn_152 ?_
    refine hx_sI C0 hU hH h dX1_turn_153 (fun w H locs hH h => ?_)
    refine hx_aload C0 dX1_turn_154 (lv_at hl 2 rfl) ?_
    refine hx_gRN C0 hU hH (ci := 4) rfl in_X5 4 (by decide) q661 (fun _ h9 => h9) h dX1_turn_156 (fun r_4 h => ?_)
    refine lv_iload_n hx hb dX1_turn_159 rfl (lv_at hl 0 rfl) ?_
    obtain ⟨b_5, rfl, h9⟩ := h
    have h := h9
    clear h9
    refine hx_aI C0 hU hH h dX1_turn_160 (fun i_6 h => ?_)
    exact hx_xreti C0 hH hr hlocks h (Nat.le_of_ble_eq_true rfl) (Nat.le_of_ble_eq_true rfl) dX1_turn_161
  have b116 : ∀ (w : Hp) (x2 : Int32) (x3 : Int32) (a4 : Nat), wp_X1_turn_b116 K X  w x2 x3 a4 → ∀ (H : Heap) (locs : List Loc) (ls : Array Slot), hx_H G w s H locs → lv_has ls 5 [(2, .int x2), (3, .int x3), (4, va_rf (some a4))] → W p l e (headSpec (ws9_X1_turn) rm_X1_turn).room s m args below meth c H locs (1) (6) (Q9_X1_turn below args s G K X) (F0 m 116 ls []) := by
    intro w x2 x3 a4 h H locs ls hH hl
    refine hx_aload C0 dX1_turn_116 (lv_at hl 2 rfl) ?_
    refine hx_gIN C0 hU hH (ci := 4) rfl in_X5 5 (by decide) q663 (fun _ h9 => h9) h dX1_turn_118 (fun i_1 h => ?_)
    refine lv_iconst (v := -1) hx hb dX1_turn_121 (by decide) ?_
    refine lv_icmp_ne hx hb dX1_turn_122 (tgt := 143) (by decide) (fun c_2 => ?_) (fun c_2 => ?_)
    · have h := h.2 c_2
      refine W.widen (k := 1) (n := 6) (Nat.le_of_ble_eq_true rfl) (Nat.le_of_ble_eq_true rfl) ?_
      exact b143 _ _ _ _ h _ _ _ hH (lv_sub hl [0, 1, 2] rfl)
    · have h := h.1 c_2
      refine hx_aload C0 dX1_turn_125 (lv_at hl 2 rfl) ?_
      refine lv_iload_n hx hb dX1_turn_127 rfl (lv_at hl 0 rfl) ?_
      refine hx_pVN C0 hU hH (ci := 4) rfl in_X5 tyX5 tyX5_ok nmX5 5 (by decide) q663 (fun _ h9 => h9) rfl rfl rfl h dX1_turn_128 (fun w H locs hH h => ?_)
      refine hx_aload C0 dX1_turn_131 (lv_at hl 2 rfl) ?_
      refine hx_aload C0 dX1_turn_133 (lv_at hl 2 rfl) ?_
      refine hx_gRN C0 hU hH (ci := 4) rfl in_X5 4 (by decide) q661 (fun _ h9 => h9) h dX1_turn_135 (fun r_3 h => ?_)
      refine lv_iload_n hx hb dX1_turn_138 rfl (lv_at hl 0 rfl) ?_
      obtain ⟨b_4, rfl, h9⟩ := h
      have h := h9
      clear h9
      refine hx_aI C0 hU hH h dX1_turn_139 (fun i_5 h => ?_)
      refine hx_pVN C0 hU hH (ci := 4) rfl in_X5 tyX5 tyX5_ok nmX5 6 (by decide) q665 (fun _ h9 => h9) rfl rfl rfl h dX1_turn_140 (fun w H locs hH h => ?_)
      refine W.widen (k := 1) (n := 6) (Nat.le_of_ble_eq_true rfl) (Nat.le_of_ble_eq_true rfl) ?_
      exact b143 _ _ _ _ h _ _ _ hH (lv_sub hl [0, 1, 2] rfl)
  have b88 : ∀ (w : Hp) (x2 : Int32) (x3 : Int32) (a4 : Nat), wp_X1_turn_b88 K X  w x2 x3 a4 → ∀ (H : Heap) (locs : List Loc) (ls : Array Slot), hx_H G w s H locs → lv_has ls 5 [(2, .int x2), (3, .int x3), (4, va_rf (some a4))] → W p l e (headSpec (ws9_X1_turn) rm_X1_turn).room s m args below meth c H locs (1) (6) (Q9_X1_turn below args s G K X) (F0 m 88 ls []) := by
    intro w x2 x3 a4 h H locs ls hH hl
    refine hx_aload C0 dX1_turn_88 (lv_at hl 2 rfl) ?_
    refine hx_gIN C0 hU hH (ci := 4) rfl in_X5 5 (by decide) q663 (fun _ h9 => h9) h dX1_turn_90 (fun i_1 h => ?_)
    refine lv_iconst (v := -1) hx hb dX1_turn_93 (by decide) ?_
    refine lv_icmp_eq hx hb dX1_turn_94 (tgt := 116) (by decide) (fun c_2 => ?_) (fun c_2 => ?_)
    · have h := h.1 c_2
      refine W.widen (k := 1) (n := 6) (Nat.le_of_ble_eq_true rfl) (Nat.le_of_ble_eq_true rfl) ?_
      exact b116 _ _ _ _ h _ _ _ hH (lv_sub hl [0, 1, 2] rfl)
    · have h := h.2 c_2
      refine hx_aload C0 dX1_turn_97 (lv_at hl 2 rfl) ?_
      refine hx_gIN C0 hU hH (ci := 4) rfl in_X5 5 (by decide) q663 (fun _ h9 => h9) h dX1_turn_99 (fun i_3 h => ?_)
      refine lv_iload_n hx hb dX1_turn_102 rfl (lv_at hl 0 rfl) ?_
      refine lv_icmp_eq hx hb dX1_turn_103 (tgt := 116) (by decide) (fun c_4 => ?_) (fun c_4 => ?_)
      · have h := h.1 c_4
        refine W.widen (k := 1) (n := 6) (Nat.le_of_ble_eq_true rfl) (Nat.le_of_ble_eq_true rfl) ?_
        exact b116 _ _ _ _ h _ _ _ hH (lv_sub hl [0, 1, 2] rfl)
      · have h := h.2 c_4
        exact hx_throw C0 hU hH hst (text := "another field") (cls := eIS) (names := hx_names) hl.1 rfl hx_names_fit q522 q76 q909 hat_eIS good_eIS_63 dX1_turn_106 dX1_turn_109 dX1_turn_110 dX1_turn_112 dX1_turn_115 hex hlocks h (Nat.le_of_ble_eq_true rfl) (Nat.le_of_ble_eq_true rfl) (Nat.le_of_ble_eq_true rfl) (Nat.le_of_ble_eq_true rfl) (Nat.le_of_ble_eq_true rfl) (Nat.le_of_ble_eq_true rfl)
  have b78 : ∀ (w : Hp) , wp_X1_turn_b78 K X  w  → ∀ (H : Heap) (locs : List Loc) (ls : Array Slot), hx_H G w s H locs → lv_has ls 5 [] → W p l e (headSpec (ws9_X1_turn) rm_X1_turn).room s m args below meth c H locs (1) (6) (Q9_X1_turn below args s G K X) (F0 m 78 ls []) := by
    intro w  h H locs ls hH hl
    exact hx_throw C0 hU hH hst (text := "turn") (cls := eIA) (names := hx_names) hl.1 rfl hx_names_fit q496 q75 q908 hat_eIA good_eIA_51 dX1_turn_78 dX1_turn_81 dX1_turn_82 dX1_turn_84 dX1_turn_87 hex hlocks h (Nat.le_of_ble_eq_true rfl) (Nat.le_of_ble_eq_true rfl) (Nat.le_of_ble_eq_true rfl) (Nat.le_of_ble_eq_true rfl) (Nat.le_of_ble_eq_true rfl) (Nat.le_of_ble_eq_true rfl)
  refine hx_aload_n C0 dX1_turn_0 rfl (lv_at hl 0 rfl) ?_
  refine lv_iload_n hx hb dX1_turn_1 rfl (lv_at hl 1 rfl) ?_
  obtain ⟨ho, h⟩ := h
  refine hx_xVv C0 hU hH (As := [.int x1]) (wk_X1_checkLetter l hst h) (cwV 1 hts (lw_V q772 q774 qs20 q60 q775) rfl rfl rfl (by decide +kernel) ⟨Nat.le_of_ble_eq_true rfl, Nat.le_of_ble_eq_true rfl⟩) (hx_recv hU hH (ci := 0) rfl ho) rfl hl.1 rfl (Nat.le_of_ble_eq_true rfl) dX1_turn_2 ⟨Nat.le_of_ble_eq_true rfl, Nat.le_of_ble_eq_true rfl⟩ (fun E ce q9 w H locs hH hXE h1 h2 h3 => hx_xout hH hXE h1 h2 h3 hex hlocks (Nat.le_of_ble_eq_true rfl) (Nat.le_of_ble_eq_true rfl)) (fun w H locs hH h => ?_)
  refine hx_aload_n C0 dX1_turn_5 rfl (lv_at hl 0 rfl) ?_
  refine hx_gR C0 hU hH (ci := 0) rfl in_X1 7 (by decide) q270 (fun _ h9 => h9) h dX1_turn_6 (fun r_1 h => ?_)
  refine lv_iload_n hx hb dX1_turn_9 rfl (lv_at hl 1 rfl) ?_
  obtain ⟨b_2, rfl, h9⟩ := h
  have h := h9
  clear h9
  obtain ⟨ho, h⟩ := h
  refine hx_Vq C0 hU hH (As := [.int x1]) (wk_J2_get l h) (cwV 1 hts (lw_V q468 q469 q470 q63 q471) rfl rfl rfl (by decide +kernel) ⟨Nat.le_of_ble_eq_true rfl, Nat.le_of_ble_eq_true rfl⟩) (hx_recv hU hH (ci := 7) rfl ho) rfl hl.1 rfl (Nat.le_of_ble_eq_true rfl) dX1_turn_10 ⟨Nat.le_of_ble_eq_true rfl, Nat.le_of_ble_eq_true rfl⟩ (fun r_3 w H locs hH h => ?_)
  refine hx_ckO C0 hU hH (ci := 4) rfl q444 h dX1_turn_13 (fun h => ?_)
  refine hx_astore C0 dX1_turn_16 hl (by decide) (lv' := [(4, va_rf r_3), (0, va_rf (some a0)), (1, .int x1), (2, .int x2), (3, .int x3)]) rfl (fun ls hl => ?_)
  refine hx_aload C0 dX1_turn_18 (lv_at hl 0 rfl) ?_
  refine lv_iload_n hx hb dX1_turn_20 rfl (lv_at hl 3 rfl) ?_
  obtain ⟨b_4, rfl, h9⟩ := h
  have h := h9
  clear h9
  obtain ⟨ho, h⟩ := h
  refine hx_VNi C0 hU hH (As := [.int x2]) (wk_X5_mayTurn l h) ⟨va_cnB 1 hts (lw_meth q904) rfl rfl rfl (hU.2.2.1 _ q901 rfl) (hts _ q81) (by decide +kernel) ⟨Nat.le_of_ble_eq_true rfl, Nat.le_of_ble_eq_true rfl⟩, hts _ q903, hts _ qs33⟩ (hx_recv hU hH (ci := 4) rfl ho) rfl hl.1 rfl (Nat.le_of_ble_eq_true rfl) dX1_turn_21 ⟨Nat.le_of_ble_eq_true rfl, Nat.le_of_ble_eq_true rfl⟩ (fun i_5 w H locs hH h => ?_)
  refine lv_if_eq hx hb dX1_turn_24 (tgt := 78) (by decide) (fun c_6 => ?_) (fun c_6 => ?_)
  · have h := h.1 c_6
    refine W.widen (k := 1) (n := 6) (Nat.le_of_ble_eq_true rfl) (Nat.le_of_ble_eq_true rfl) ?_
    exact b78 _  h _ _ _ hH (lv_sub hl [] rfl)
  · have h := h.2 c_6
    refine lv_iload_n hx hb dX1_turn_27 rfl (lv_at hl 4 rfl) ?_
    refine lv_if_eq hx hb dX1_turn_28 (tgt := 78) (by decide) (fun c_7 => ?_) (fun c_7 => ?_)
    · have h := h.1 c_7
      refine W.widen (k := 1) (n := 6) (Nat.le_of_ble_eq_true rfl) (Nat.le_of_ble_eq_true rfl) ?_
      exact b78 _  h _ _ _ hH (lv_sub hl [] rfl)
    · have h := h.2 c_7
      refine lv_iload_n hx hb dX1_turn_31 rfl (lv_at hl 4 rfl) ?_
      refine lv_sipush (v := -500) hx hb dX1_turn_32 (by decide) ?_
      refine lv_icmp_lt hx hb dX1_turn_35 (tgt := 78) (by decide) (fun c_8 => ?_) (fun c_8 => ?_)
      · have h := h.1 c_8
        refine W.widen (k := 1) (n := 6) (Nat.le_of_ble_eq_true rfl) (Nat.le_of_ble_eq_true rfl) ?_
        exact b78 _  h _ _ _ hH (lv_sub hl [] rfl)
      · have h := h.2 c_8
        refine lv_iload_n hx hb dX1_turn_38 rfl (lv_at hl 4 rfl) ?_
        refine lv_sipush (v := 500) hx hb dX1_turn_39 (by decide) ?_
        refine lv_icmp_gt hx hb dX1_turn_42 (tgt := 78) (by decide) (fun c_9 => ?_) (fun c_9 => ?_)
        · have h := h.1 c_9
          refine W.widen (k := 1) (n := 6) (Nat.le_of_ble_eq_true rfl) (Nat.le_of_ble_eq_true rfl) ?_
          exact b78 _  h _ _ _ hH (lv_sub hl [] rfl)
        · have h := h.2 c_9
          refine hx_aload C0 dX1_turn_45 (lv_at hl 0 rfl) ?_
          refine hx_gIN C0 hU hH (ci := 4) rfl in_X5 5 (by decide) q663 (fun _ h9 => h9) h dX1_turn_47 (fun i_10 h => ?_)
          refine lv_iload_n hx hb dX1_turn_50 rfl (lv_at hl 3 rfl) ?_
          refine lv_icmp_ne hx hb dX1_turn_51 (tgt := 88) (by decide) (fun c_11 => ?_) (fun c_11 => ?_)
          · have h := h.2 c_11
            refine W.widen (k := 1) (n := 6) (Nat.le_of_ble_eq_true rfl) (Nat.le_of_ble_eq_true rfl) ?_
            exact b88 _ _ _ _ h _ _ _ hH (lv_sub hl [3, 4, 0] rfl)
          · have h := h.1 c_11
            refine hx_aload C0 dX1_turn_54 (lv_at hl 0 rfl) ?_
            refine hx_gRN C0 hU hH (ci := 4) rfl in_X5 4 (by decide) q661 (fun _ h9 => h9) h dX1_turn_56 (fun r_12 h => ?_)
            refine lv_iload_n hx hb dX1_turn_59 rfl (lv_at hl 3 rfl) ?_
            obtain ⟨b_13, rfl, h9⟩ := h
            have h := h9
            clear h9
            refine hx_aI C0 hU hH h dX1_turn_60 (fun i_14 h => ?_)
            refine lv_iload_n hx hb dX1_turn_61 rfl (lv_at hl 4 rfl) ?_
            refine lv_iadd hx hb dX1_turn_62 ?_
            refine hx_aload C0 dX1_turn_63 (lv_at hl 0 rfl) ?_
            refine hx_gIN C0 hU hH (ci := 4) rfl in_X5 6 (by decide) q665 (fun _ h9 => h9) h dX1_turn_65 (fun i_15 h => ?_)
            refine lv_isub hx hb dX1_turn_68 ?_
            refine hx_Si C0 hU hH (As := [.int ((i_14 + x3) - i_15)]) (wk_J4_abs l h) (va_cwS 1 hts (lw_S q905 q906 q66 q907) rfl rfl rfl (by decide +kernel) ⟨Nat.le_of_ble_eq_true rfl, Nat.le_of_ble_eq_true rfl⟩) rfl hl.1 rfl (Nat.le_of_ble_eq_true rfl) dX1_turn_69 ⟨Nat.le_of_ble_eq_true rfl, Nat.le_of_ble_eq_true rfl⟩ (fun i_16 w H locs hH h => ?_)
            refine lv_sipush (v := 10000) hx hb dX1_turn_72 (by decide) ?_
            refine lv_icmp_le hx hb dX1_turn_75 (tgt := 88) (by decide) (fun c_17 => ?_) (fun c_17 => ?_)
            · have h := h.1 c_17
              refine W.widen (k := 1) (n := 6) (Nat.le_of_ble_eq_true rfl) (Nat.le_of_ble_eq_true rfl) ?_
              exact b88 _ _ _ _ h _ _ _ hH (lv_sub hl [3, 4, 0] rfl)
            · have h := h.2 c_17
              refine W.widen (k := 1) (n := 6) (Nat.le_of_ble_eq_true rfl) (Nat.le_of_ble_eq_true rfl) ?_
              exact b78 _  h _ _ _ hH (lv_sub hl [] rfl)
def wp_X1_reroute_b16 (K : Hp → Int32 → Prop) (X : Hp → String → Prop)  (w : Hp)  : Prop :=
  X w eIA
def wp_X1_reroute (w : Hp) (a0 : Nat) (x1 : Int32) (x2 : Int32) (X : Hp → String → Prop) (K : Hp → Int32 → Prop) : Prop :=
  isO w a0 0 <| wp_X1_checkLetter w a0 x1 X fun w => br (x2 < (1 : Int32)) (wp_X1_reroute_b16 K X w) (br (x2 ≤ (99 : Int32)) (gR w a0 0 7 fun r_3 => dR r_3 fun b_4 => isO w b_4 7 <| wp_J2_get w b_4 x1 fun w r_5 => ckO w r_5 4 <| dR r_5 fun b_6 => gI w b_6 4 0 fun i_7 => pV w b_6 4 0 (.int x2) fun w => K w i_7) (wp_X1_reroute_b16 K X w))
abbrev rm_X1_reroute : Room := { frames := 7, cells := 2, slots := 12, locals := 103 }
abbrev ws9_X1_reroute : List Cond := ws_ yX1_reroute cX1_reroute 5 (Option.some Jvm.ClassFile.FieldType.int)
abbrev Q9_X1_reroute (below : List Frame) (args : Array Value) (s : State) (G : hG) (K : Hp → Int32 → Prop) (X : Hp → String → Prop) : State → Prop := vx_MQ below (hx_Qi G K) (hx_XC G X) args s 2 12 (hx_A G)
set_option maxHeartbeats 4000000 in
set_option maxRecDepth 100000 in
theorem wk_X1_reroute (l : Launch) (hst : l.stackTraces = false) {G : hG} {w : Hp} {a0 : Nat} {x1 : Int32} {x2 : Int32} {K : Hp → Int32 → Prop} {X : Hp → String → Prop} (h : wp_X1_reroute w a0 x1 x2 X K) : hx_xMi l yX1_reroute (ws9_X1_reroute) rm_X1_reroute G w [.ref a0, .int x1, .int x2] K X 2 12 := by
  refine vx_ofW (cc := cX1_reroute) (maxL := 5) (ret := (Option.some Jvm.ClassFile.FieldType.int)) (by decide +kernel) rfl ?_
  intro p e s m args below meth c s₁ B hml hex hv
  refine hx_in (own := RX1) (av := [.ref a0, .int x1, .int x2]) (vl := [(0, va_rf (some a0)), (1, .int x1), (2, .int x2)]) rfl rfl (Nat.le_of_ble_eq_true rfl) rfl B hml hv ?_
  intro C0 hU hH hr hlocks hin ls hl
  have hx := C0.1
  have hb := C0.2.1
  have hts := C0.2.2.2.2
  have b16 : ∀ (w : Hp) , wp_X1_reroute_b16 K X  w  → ∀ (H : Heap) (locs : List Loc) (ls : Array Slot), hx_H G w s H locs → lv_has ls 5 [] → W p l e (headSpec (ws9_X1_reroute) rm_X1_reroute).room s m args below meth c H locs (1) (6) (Q9_X1_reroute below args s G K X) (F0 m 16 ls []) := by
    intro w  h H locs ls hH hl
    exact hx_throw C0 hU hH hst (text := "address") (cls := eIA) (names := hx_names) hl.1 rfl hx_names_fit q496 q75 q585 hat_eIA good_eIA_51 dX1_reroute_16 dX1_reroute_19 dX1_reroute_20 dX1_reroute_22 dX1_reroute_25 hex hlocks h (Nat.le_of_ble_eq_true rfl) (Nat.le_of_ble_eq_true rfl) (Nat.le_of_ble_eq_true rfl) (Nat.le_of_ble_eq_true rfl) (Nat.le_of_ble_eq_true rfl) (Nat.le_of_ble_eq_true rfl)
  refine hx_aload_n C0 dX1_reroute_0 rfl (lv_at hl 0 rfl) ?_
  refine lv_iload_n hx hb dX1_reroute_1 rfl (lv_at hl 1 rfl) ?_
  obtain ⟨ho, h⟩ := h
  refine hx_xVv C0 hU hH (As := [.int x1]) (wk_X1_checkLetter l hst h) (cwV 1 hts (lw_V q772 q774 qs20 q60 q775) rfl rfl rfl (by decide +kernel) ⟨Nat.le_of_ble_eq_true rfl, Nat.le_of_ble_eq_true rfl⟩) (hx_recv hU hH (ci := 0) rfl ho) rfl hl.1 rfl (Nat.le_of_ble_eq_true rfl) dX1_reroute_2 ⟨Nat.le_of_ble_eq_true rfl, Nat.le_of_ble_eq_true rfl⟩ (fun E ce q9 w H locs hH hXE h1 h2 h3 => hx_xout hH hXE h1 h2 h3 hex hlocks (Nat.le_of_ble_eq_true rfl) (Nat.le_of_ble_eq_true rfl)) (fun w H locs hH h => ?_)
  refine lv_iload_n hx hb dX1_reroute_5 rfl (lv_at hl 2 rfl) ?_
  refine lv_iconst (v := 1) hx hb dX1_reroute_6 (by decide) ?_
  refine lv_icmp_lt hx hb dX1_reroute_7 (tgt := 16) (by decide) (fun c_1 => ?_) (fun c_1 => ?_)
  · have h := h.1 c_1
    refine W.widen (k := 1) (n := 6) (Nat.le_of_ble_eq_true rfl) (Nat.le_of_ble_eq_true rfl) ?_
    exact b16 _  h _ _ _ hH (lv_sub hl [] rfl)
  · have h := h.2 c_1
    refine lv_iload_n hx hb dX1_reroute_10 rfl (lv_at hl 2 rfl) ?_
    refine lv_bipush (v := 99) hx hb dX1_reroute_11 (by decide) ?_
    refine lv_icmp_le hx hb dX1_reroute_13 (tgt := 26) (by decide) (fun c_2 => ?_) (fun c_2 => ?_)
    · have h := h.1 c_2
      refine hx_aload_n C0 dX1_reroute_26 rfl (lv_at hl 0 rfl) ?_
      refine hx_gR C0 hU hH (ci := 0) rfl in_X1 7 (by decide) q270 (fun _ h9 => h9) h dX1_reroute_27 (fun r_3 h => ?_)
      refine lv_iload_n hx hb dX1_reroute_30 rfl (lv_at hl 1 rfl) ?_
      obtain ⟨b_4, rfl, h9⟩ := h
      have h := h9
      clear h9
      obtain ⟨ho, h⟩ := h
      refine hx_Vq C0 hU hH (As := [.int x1]) (wk_J2_get l h) (cwV 1 hts (lw_V q468 q469 q470 q63 q471) rfl rfl rfl (by decide +kernel) ⟨Nat.le_of_ble_eq_true rfl, Nat.le_of_ble_eq_true rfl⟩) (hx_recv hU hH (ci := 7) rfl ho) rfl hl.1 rfl (Nat.le_of_ble_eq_true rfl) dX1_reroute_31 ⟨Nat.le_of_ble_eq_true rfl, Nat.le_of_ble_eq_true rfl⟩ (fun r_5 w H locs hH h => ?_)
      refine hx_ckO C0 hU hH (ci := 4) rfl q444 h dX1_reroute_34 (fun h => ?_)
      refine hx_astore_n C0 dX1_reroute_37 rfl hl (by decide) (lv' := [(3, va_rf r_5), (0, va_rf (some a0)), (1, .int x1), (2, .int x2)]) rfl (fun ls hl => ?_)
      refine hx_aload_n C0 dX1_reroute_38 rfl (lv_at hl 0 rfl) ?_
      obtain ⟨b_6, rfl, h9⟩ := h
      have h := h9
      clear h9
      refine hx_gIN C0 hU hH (ci := 4) rfl in_X5 0 (by decide) q654 (fun _ h9 => h9) h dX1_reroute_39 (fun i_7 h => ?_)
      refine lv_istore hx hb dX1_reroute_42 hl (by decide) (lv' := [(4, .int i_7), (3, va_rf (some b_6)), (0, va_rf (some a0)), (1, .int x1), (2, .int x2)]) rfl (fun ls hl => ?_)
      refine hx_aload_n C0 dX1_reroute_44 rfl (lv_at hl 1 rfl) ?_
      refine lv_iload_n hx hb dX1_reroute_45 rfl (lv_at hl 4 rfl) ?_
      refine hx_pVN C0 hU hH (ci := 4) rfl in_X5 tyX5 tyX5_ok nmX5 0 (by decide) q654 (fun _ h9 => h9) rfl rfl rfl h dX1_reroute_46 (fun w H locs hH h => ?_)
      refine lv_iload hx hb dX1_reroute_49 (lv_at hl 0 rfl) ?_
      exact hx_xreti C0 hH hr hlocks h (Nat.le_of_ble_eq_true rfl) (Nat.le_of_ble_eq_true rfl) dX1_reroute_51
    · have h := h.2 c_2
      refine W.widen (k := 1) (n := 6) (Nat.le_of_ble_eq_true rfl) (Nat.le_of_ble_eq_true rfl) ?_
      exact b16 _  h _ _ _ hH (lv_sub hl [] rfl)
def wp_X1_later (w : Hp) (a0 : Nat) (x1 : Int32) (X : Hp → String → Prop) (K : Hp → Int32 → Prop) : Prop :=
  isO w a0 0 <| wp_X1_checkLetter w a0 x1 X fun w => gR w a0 0 7 fun r_1 => gR w a0 0 7 fun r_2 => dR r_2 fun b_3 => isO w b_3 7 <| wp_J2_remove w b_3 x1 fun w r_4 => ckO w r_4 4 <| dR r_4 fun b_5 => dR r_1 fun b_6 => isO w b_6 7 <| wp_J2_add w b_6 b_5 fun w i_7 => gR w a0 0 7 fun r_8 => dR r_8 fun b_9 => isO w b_9 7 <| wp_J2_size w b_9 fun w i_10 => K w (i_10 - (1 : Int32))
abbrev rm_X1_later : Room := { frames := 8, cells := 2, slots := 262, locals := 268 }
abbrev ws9_X1_later : List Cond := ws_ yX1_later cX1_later 2 (Option.some Jvm.ClassFile.FieldType.int)
abbrev Q9_X1_later (below : List Frame) (args : Array Value) (s : State) (G : hG) (K : Hp → Int32 → Prop) (X : Hp → String → Prop) : State → Prop := vx_MQ below (hx_Qi G K) (hx_XC G X) args s 2 262 (hx_A G)
set_option maxHeartbeats 4000000 in
set_option maxRecDepth 100000 in
theorem wk_X1_later (l : Launch) (hst : l.stackTraces = false) {G : hG} {w : Hp} {a0 : Nat} {x1 : Int32} {K : Hp → Int32 → Prop} {X : Hp → String → Prop} (h : wp_X1_later w a0 x1 X K) : hx_xMi l yX1_later (ws9_X1_later) rm_X1_later G w [.ref a0, .int x1] K X 2 262 := by
  refine vx_ofW (cc := cX1_later) (maxL := 2) (ret := (Option.some Jvm.ClassFile.FieldType.int)) (by decide +kernel) rfl ?_
  intro p e s m args below meth c s₁ B hml hex hv
  refine hx_in (own := RX1) (av := [.ref a0, .int x1]) (vl := [(0, va_rf (some a0)), (1, .int x1)]) rfl rfl (Nat.le_of_ble_eq_true rfl) rfl B hml hv ?_
  intro C0 hU hH hr hlocks hin ls hl
  have hx := C0.1
  have hb := C0.2.1
  have hts := C0.2.2.2.2
  refine hx_aload_n C0 dX1_later_0 rfl (lv_at hl 0 rfl) ?_
  refine lv_iload_n hx hb dX1_later_1 rfl (lv_at hl 1 rfl) ?_
  obtain ⟨ho, h⟩ := h
  refine hx_xVv C0 hU hH (As := [.int x1]) (wk_X1_checkLetter l hst h) (cwV 1 hts (lw_V q772 q774 qs20 q60 q775) rfl rfl rfl (by decide +kernel) ⟨Nat.le_of_ble_eq_true rfl, Nat.le_of_ble_eq_true rfl⟩) (hx_recv hU hH (ci := 0) rfl ho) rfl hl.1 rfl (Nat.le_of_ble_eq_true rfl) dX1_later_2 ⟨Nat.le_of_ble_eq_true rfl, Nat.le_of_ble_eq_true rfl⟩ (fun E ce q9 w H locs hH hXE h1 h2 h3 => hx_xout hH hXE h1 h2 h3 hex hlocks (Nat.le_of_ble_eq_true rfl) (Nat.le_of_ble_eq_true rfl)) (fun w H locs hH h => ?_)
  refine hx_aload_n C0 dX1_later_5 rfl (lv_at hl 0 rfl) ?_
  refine hx_gR C0 hU hH (ci := 0) rfl in_X1 7 (by decide) q270 (fun _ h9 => h9) h dX1_later_6 (fun r_1 h => ?_)
  refine hx_aload_n C0 dX1_later_9 rfl (lv_at hl 0 rfl) ?_
  refine hx_gR C0 hU hH (ci := 0) rfl in_X1 7 (by decide) q270 (fun _ h9 => h9) h dX1_later_10 (fun r_2 h => ?_)
  refine lv_iload_n hx hb dX1_later_13 rfl (lv_at hl 1 rfl) ?_
  obtain ⟨b_3, rfl, h9⟩ := h
  have h := h9
  clear h9
  obtain ⟨ho, h⟩ := h
  refine hx_Vq C0 hU hH (As := [.int x1]) (wk_J2_remove l h) (cwV 1 hts (lw_V q777 q778 q779 q63 q780) rfl rfl rfl (by decide +kernel) ⟨Nat.le_of_ble_eq_true rfl, Nat.le_of_ble_eq_true rfl⟩) (hx_recv hU hH (ci := 7) rfl ho) rfl hl.1 rfl (by cases r_1 <;> exact Nat.le_of_ble_eq_true rfl) dX1_later_14 ⟨Nat.le_of_ble_eq_true rfl, Nat.le_of_ble_eq_true rfl⟩ (fun r_4 w H locs hH h => ?_)
  refine hx_ckO C0 hU hH (ci := 4) rfl q444 h dX1_later_17 (fun h => ?_)
  obtain ⟨b_5, rfl, h9⟩ := h
  have h := h9
  clear h9
  obtain ⟨b_6, rfl, h9⟩ := h
  have h := h9
  clear h9
  obtain ⟨ho, h⟩ := h
  refine hx_Vi C0 hU hH (As := [va_rf (some b_5)]) (wk_J2_add l h) (cwV 1 hts (lw_V q154 q155 q156 q63 q157) rfl rfl rfl (by decide +kernel) ⟨Nat.le_of_ble_eq_true rfl, Nat.le_of_ble_eq_true rfl⟩) (hx_recv hU hH (ci := 7) rfl ho) rfl hl.1 rfl (Nat.le_of_ble_eq_true rfl) dX1_later_20 ⟨Nat.le_of_ble_eq_true rfl, Nat.le_of_ble_eq_true rfl⟩ (fun i_7 w H locs hH h => ?_)
  refine lv_pop hx hb dX1_later_23 rfl ?_
  refine hx_aload_n C0 dX1_later_24 rfl (lv_at hl 0 rfl) ?_
  refine hx_gR C0 hU hH (ci := 0) rfl in_X1 7 (by decide) q270 (fun _ h9 => h9) h dX1_later_25 (fun r_8 h => ?_)
  obtain ⟨b_9, rfl, h9⟩ := h
  have h := h9
  clear h9
  obtain ⟨ho, h⟩ := h
  refine hx_Vi C0 hU hH (As := []) (wk_J2_size l h) (cwV 0 hts (lw_V q302 q303 q304 q63 q305) rfl rfl rfl (by decide +kernel) ⟨Nat.le_of_ble_eq_true rfl, Nat.le_of_ble_eq_true rfl⟩) (hx_recv hU hH (ci := 7) rfl ho) rfl hl.1 rfl (Nat.le_of_ble_eq_true rfl) dX1_later_28 ⟨Nat.le_of_ble_eq_true rfl, Nat.le_of_ble_eq_true rfl⟩ (fun i_10 w H locs hH h => ?_)
  refine lv_iconst (v := 1) hx hb dX1_later_31 (by decide) ?_
  refine lv_isub hx hb dX1_later_32 ?_
  exact hx_xreti C0 hH hr hlocks h (Nat.le_of_ble_eq_true rfl) (Nat.le_of_ble_eq_true rfl) dX1_later_33
def wp_X1_letter_b15 (K : Hp → Int32 → Prop) (X : Hp → String → Prop)  (w : Hp)  : Prop :=
  X w eIA
def wp_X1_letter (w : Hp) (a0 : Nat) (x1 : Int32) (x2 : Int32) (X : Hp → String → Prop) (K : Hp → Int32 → Prop) : Prop :=
  isO w a0 0 <| wp_X1_checkLetter w a0 x1 X fun w => br (x2 < 0) (wp_X1_letter_b15 K X w) (br (x2 ≤ (8 : Int32)) (gR w a0 0 7 fun r_3 => dR r_3 fun b_4 => isO w b_4 7 <| wp_J2_get w b_4 x1 fun w r_5 => ckO w r_5 4 <| dR r_5 fun b_6 => isO w b_6 4 <| wp_X5_tell w b_6 x2 fun w i_7 => K w i_7) (wp_X1_letter_b15 K X w))
abbrev rm_X1_letter : Room := { frames := 7, cells := 2, slots := 12, locals := 103 }
abbrev ws9_X1_letter : List Cond := ws_ yX1_letter cX1_letter 3 (Option.some Jvm.ClassFile.FieldType.int)
abbrev Q9_X1_letter (below : List Frame) (args : Array Value) (s : State) (G : hG) (K : Hp → Int32 → Prop) (X : Hp → String → Prop) : State → Prop := vx_MQ below (hx_Qi G K) (hx_XC G X) args s 2 12 (hx_A G)
set_option maxHeartbeats 4000000 in
set_option maxRecDepth 100000 in
theorem wk_X1_letter (l : Launch) (hst : l.stackTraces = false) {G : hG} {w : Hp} {a0 : Nat} {x1 : Int32} {x2 : Int32} {K : Hp → Int32 → Prop} {X : Hp → String → Prop} (h : wp_X1_letter w a0 x1 x2 X K) : hx_xMi l yX1_letter (ws9_X1_letter) rm_X1_letter G w [.ref a0, .int x1, .int x2] K X 2 12 := by
  refine vx_ofW (cc := cX1_letter) (maxL := 3) (ret := (Option.some Jvm.ClassFile.FieldType.int)) (by decide +kernel) rfl ?_
  intro p e s m args below meth c s₁ B hml hex hv
  refine hx_in (own := RX1) (av := [.ref a0, .int x1, .int x2]) (vl := [(0, va_rf (some a0)), (1, .int x1), (2, .int x2)]) rfl rfl (Nat.le_of_ble_eq_true rfl) rfl B hml hv ?_
  intro C0 hU hH hr hlocks hin ls hl
  have hx := C0.1
  have hb := C0.2.1
  have hts := C0.2.2.2.2
  have b15 : ∀ (w : Hp) , wp_X1_letter_b15 K X  w  → ∀ (H : Heap) (locs : List Loc) (ls : Array Slot), hx_H G w s H locs → lv_has ls 3 [] → W p l e (headSpec (ws9_X1_letter) rm_X1_letter).room s m args below meth c H locs (1) (6) (Q9_X1_letter below args s G K X) (F0 m 15 ls []) := by
    intro w  h H locs ls hH hl
    exact hx_throw C0 hU hH hst (text := "what") (cls := eIA) (names := hx_names) hl.1 rfl hx_names_fit q496 q75 q931 hat_eIA good_eIA_51 dX1_letter_15 dX1_letter_18 dX1_letter_19 dX1_letter_21 dX1_letter_24 hex hlocks h (Nat.le_of_ble_eq_true rfl) (Nat.le_of_ble_eq_true rfl) (Nat.le_of_ble_eq_true rfl) (Nat.le_of_ble_eq_true rfl) (Nat.le_of_ble_eq_true rfl) (Nat.le_of_ble_eq_true rfl)
  refine hx_aload_n C0 dX1_letter_0 rfl (lv_at hl 0 rfl) ?_
  refine lv_iload_n hx hb dX1_letter_1 rfl (lv_at hl 1 rfl) ?_
  obtain ⟨ho, h⟩ := h
  refine hx_xVv C0 hU hH (As := [.int x1]) (wk_X1_checkLetter l hst h) (cwV 1 hts (lw_V q772 q774 qs20 q60 q775) rfl rfl rfl (by decide +kernel) ⟨Nat.le_of_ble_eq_true rfl, Nat.le_of_ble_eq_true rfl⟩) (hx_recv hU hH (ci := 0) rfl ho) rfl hl.1 rfl (Nat.le_of_ble_eq_true rfl) dX1_letter_2 ⟨Nat.le_of_ble_eq_true rfl, Nat.le_of_ble_eq_true rfl⟩ (fun E ce q9 w H locs hH hXE h1 h2 h3 => hx_xout hH hXE h1 h2 h3 hex hlocks (Nat.le_of_ble_eq_true rfl) (Nat.le_of_ble_eq_true rfl)) (fun w H locs hH h => ?_)
  refine lv_iload_n hx hb dX1_letter_5 rfl (lv_at hl 2 rfl) ?_
  refine lv_if_lt hx hb dX1_letter_6 (tgt := 15) (by decide) (fun c_1 => ?_) (fun c_1 => ?_)
  · have h := h.1 c_1
    refine W.widen (k := 1) (n := 6) (Nat.le_of_ble_eq_true rfl) (Nat.le_of_ble_eq_true rfl) ?_
    exact b15 _  h _ _ _ hH (lv_sub hl [] rfl)
  · have h := h.2 c_1
    refine lv_iload_n hx hb dX1_letter_9 rfl (lv_at hl 2 rfl) ?_
    refine lv_bipush (v := 8) hx hb dX1_letter_10 (by decide) ?_
    refine lv_icmp_le hx hb dX1_letter_12 (tgt := 25) (by decide) (fun c_2 => ?_) (fun c_2 => ?_)
    · have h := h.1 c_2
      refine hx_aload_n C0 dX1_letter_25 rfl (lv_at hl 0 rfl) ?_
      refine hx_gR C0 hU hH (ci := 0) rfl in_X1 7 (by decide) q270 (fun _ h9 => h9) h dX1_letter_26 (fun r_3 h => ?_)
      refine lv_iload_n hx hb dX1_letter_29 rfl (lv_at hl 1 rfl) ?_
      obtain ⟨b_4, rfl, h9⟩ := h
      have h := h9
      clear h9
      obtain ⟨ho, h⟩ := h
      refine hx_Vq C0 hU hH (As := [.int x1]) (wk_J2_get l h) (cwV 1 hts (lw_V q468 q469 q470 q63 q471) rfl rfl rfl (by decide +kernel) ⟨Nat.le_of_ble_eq_true rfl, Nat.le_of_ble_eq_true rfl⟩) (hx_recv hU hH (ci := 7) rfl ho) rfl hl.1 rfl (Nat.le_of_ble_eq_true rfl) dX1_letter_30 ⟨Nat.le_of_ble_eq_true rfl, Nat.le_of_ble_eq_true rfl⟩ (fun r_5 w H locs hH h => ?_)
      refine hx_ckO C0 hU hH (ci := 4) rfl q444 h dX1_letter_33 (fun h => ?_)
      refine lv_iload_n hx hb dX1_letter_36 rfl (lv_at hl 2 rfl) ?_
      obtain ⟨b_6, rfl, h9⟩ := h
      have h := h9
      clear h9
      obtain ⟨ho, h⟩ := h
      refine hx_VNi C0 hU hH (As := [.int x2]) (wk_X5_tell l h) ⟨va_cnB 1 hts (lw_meth q486) rfl rfl rfl (hU.2.2.1 _ q483 rfl) (hts _ q81) (by decide +kernel) ⟨Nat.le_of_ble_eq_true rfl, Nat.le_of_ble_eq_true rfl⟩, hts _ q485, hts _ qs9⟩ (hx_recv hU hH (ci := 4) rfl ho) rfl hl.1 rfl (Nat.le_of_ble_eq_true rfl) dX1_letter_37 ⟨Nat.le_of_ble_eq_true rfl, Nat.le_of_ble_eq_true rfl⟩ (fun i_7 w H locs hH h => ?_)
      exact hx_xreti C0 hH hr hlocks h (Nat.le_of_ble_eq_true rfl) (Nat.le_of_ble_eq_true rfl) dX1_letter_40
    · have h := h.2 c_2
      refine W.widen (k := 1) (n := 6) (Nat.le_of_ble_eq_true rfl) (Nat.le_of_ble_eq_true rfl) ?_
      exact b15 _  h _ _ _ hH (lv_sub hl [] rfl)
def wp_X1_isTurned (w : Hp) (a0 : Nat) (x1 : Int32) (X : Hp → String → Prop) (K : Hp → Int32 → Prop) : Prop :=
  isO w a0 0 <| wp_X1_checkLetter w a0 x1 X fun w => gR w a0 0 7 fun r_1 => dR r_1 fun b_2 => isO w b_2 7 <| wp_J2_get w b_2 x1 fun w r_3 => ckO w r_3 4 <| dR r_3 fun b_4 => isO w b_4 4 <| wp_X5_isTurned w b_4 fun w i_5 => gd (i_5 = 0 ∨ i_5 = 1) <| K w i_5
abbrev rm_X1_isTurned : Room := { frames := 7, cells := 1, slots := 6, locals := 103 }
abbrev ws9_X1_isTurned : List Cond := ws_ yX1_isTurned cX1_isTurned 2 (Option.some Jvm.ClassFile.FieldType.boolean)
abbrev Q9_X1_isTurned (below : List Frame) (args : Array Value) (s : State) (G : hG) (K : Hp → Int32 → Prop) (X : Hp → String → Prop) : State → Prop := vx_MQ below (hx_Qi G K) (hx_XC G X) args s 1 6 (hx_A G)
set_option maxHeartbeats 4000000 in
set_option maxRecDepth 100000 in
theorem wk_X1_isTurned (l : Launch) (hst : l.stackTraces = false) {G : hG} {w : Hp} {a0 : Nat} {x1 : Int32} {K : Hp → Int32 → Prop} {X : Hp → String → Prop} (h : wp_X1_isTurned w a0 x1 X K) : hx_xMi l yX1_isTurned (ws9_X1_isTurned) rm_X1_isTurned G w [.ref a0, .int x1] K X 1 6 := by
  refine vx_ofW (cc := cX1_isTurned) (maxL := 2) (ret := (Option.some Jvm.ClassFile.FieldType.boolean)) (by decide +kernel) rfl ?_
  intro p e s m args below meth c s₁ B hml hex hv
  refine hx_in (own := RX1) (av := [.ref a0, .int x1]) (vl := [(0, va_rf (some a0)), (1, .int x1)]) rfl rfl (Nat.le_of_ble_eq_true rfl) rfl B hml hv ?_
  intro C0 hU hH hr hlocks hin ls hl
  have hx := C0.1
  have hb := C0.2.1
  have hts := C0.2.2.2.2
  refine hx_aload_n C0 dX1_isTurned_0 rfl (lv_at hl 0 rfl) ?_
  refine lv_iload_n hx hb dX1_isTurned_1 rfl (lv_at hl 1 rfl) ?_
  obtain ⟨ho, h⟩ := h
  refine hx_xVv C0 hU hH (As := [.int x1]) (wk_X1_checkLetter l hst h) (cwV 1 hts (lw_V q772 q774 qs20 q60 q775) rfl rfl rfl (by decide +kernel) ⟨Nat.le_of_ble_eq_true rfl, Nat.le_of_ble_eq_true rfl⟩) (hx_recv hU hH (ci := 0) rfl ho) rfl hl.1 rfl (Nat.le_of_ble_eq_true rfl) dX1_isTurned_2 ⟨Nat.le_of_ble_eq_true rfl, Nat.le_of_ble_eq_true rfl⟩ (fun E ce q9 w H locs hH hXE h1 h2 h3 => hx_xout hH hXE h1 h2 h3 hex hlocks (Nat.le_of_ble_eq_true rfl) (Nat.le_of_ble_eq_true rfl)) (fun w H locs hH h => ?_)
  refine hx_aload_n C0 dX1_isTurned_5 rfl (lv_at hl 0 rfl) ?_
  refine hx_gR C0 hU hH (ci := 0) rfl in_X1 7 (by decide) q270 (fun _ h9 => h9) h dX1_isTurned_6 (fun r_1 h => ?_)
  refine lv_iload_n hx hb dX1_isTurned_9 rfl (lv_at hl 1 rfl) ?_
  obtain ⟨b_2, rfl, h9⟩ := h
  have h := h9
  clear h9
  obtain ⟨ho, h⟩ := h
  refine hx_Vq C0 hU hH (As := [.int x1]) (wk_J2_get l h) (cwV 1 hts (lw_V q468 q469 q470 q63 q471) rfl rfl rfl (by decide +kernel) ⟨Nat.le_of_ble_eq_true rfl, Nat.le_of_ble_eq_true rfl⟩) (hx_recv hU hH (ci := 7) rfl ho) rfl hl.1 rfl (Nat.le_of_ble_eq_true rfl) dX1_isTurned_10 ⟨Nat.le_of_ble_eq_true rfl, Nat.le_of_ble_eq_true rfl⟩ (fun r_3 w H locs hH h => ?_)
  refine hx_ckO C0 hU hH (ci := 4) rfl q444 h dX1_isTurned_13 (fun h => ?_)
  obtain ⟨b_4, rfl, h9⟩ := h
  have h := h9
  clear h9
  obtain ⟨ho, h⟩ := h
  refine hx_VNi C0 hU hH (As := []) (wk_X5_isTurned l h) ⟨va_cnB 0 hts (lw_meth q449) rfl rfl rfl (hU.2.2.1 _ q445 rfl) (hts _ q81) (by decide +kernel) ⟨Nat.le_of_ble_eq_true rfl, Nat.le_of_ble_eq_true rfl⟩, hts _ q447, hts _ qs7⟩ (hx_recv hU hH (ci := 4) rfl ho) rfl hl.1 rfl (Nat.le_of_ble_eq_true rfl) dX1_isTurned_16 ⟨Nat.le_of_ble_eq_true rfl, Nat.le_of_ble_eq_true rfl⟩ (fun i_5 w H locs hH h => ?_)
  obtain ⟨hz, h⟩ := h
  exact hx_xretz C0 hH hr hlocks hz h (Nat.le_of_ble_eq_true rfl) (Nat.le_of_ble_eq_true rfl) dX1_isTurned_19
def wp_X1_address (w : Hp) (a0 : Nat) (x1 : Int32) (X : Hp → String → Prop) (K : Hp → Int32 → Prop) : Prop :=
  wp_X1_checkEnd w x1 X fun w => gR w a0 0 3 fun r_1 => dR r_1 fun b_2 => aI w b_2 x1 fun i_3 => K w i_3
abbrev rm_X1_address : Room := { frames := 7, cells := 1, slots := 6, locals := 102 }
abbrev ws9_X1_address : List Cond := ws_ yX1_address cX1_address 2 (Option.some Jvm.ClassFile.FieldType.int)
abbrev Q9_X1_address (below : List Frame) (args : Array Value) (s : State) (G : hG) (K : Hp → Int32 → Prop) (X : Hp → String → Prop) : State → Prop := vx_MQ below (hx_Qi G K) (hx_XC G X) args s 1 6 (hx_A G)
set_option maxHeartbeats 4000000 in
set_option maxRecDepth 100000 in
theorem wk_X1_address (l : Launch) (hst : l.stackTraces = false) {G : hG} {w : Hp} {a0 : Nat} {x1 : Int32} {K : Hp → Int32 → Prop} {X : Hp → String → Prop} (h : wp_X1_address w a0 x1 X K) : hx_xMi l yX1_address (ws9_X1_address) rm_X1_address G w [.ref a0, .int x1] K X 1 6 := by
  refine vx_ofW (cc := cX1_address) (maxL := 2) (ret := (Option.some Jvm.ClassFile.FieldType.int)) (by decide +kernel) rfl ?_
  intro p e s m args below meth c s₁ B hml hex hv
  refine hx_in (own := RX1) (av := [.ref a0, .int x1]) (vl := [(0, va_rf (some a0)), (1, .int x1)]) rfl rfl (Nat.le_of_ble_eq_true rfl) rfl B hml hv ?_
  intro C0 hU hH hr hlocks hin ls hl
  have hx := C0.1
  have hb := C0.2.1
  have hts := C0.2.2.2.2
  refine lv_iload_n hx hb dX1_address_0 rfl (lv_at hl 1 rfl) ?_
  refine hx_xSv C0 hU hH (As := [.int x1]) (wk_X1_checkEnd l hst h) (va_cwS 1 hts (lw_S q569 q570 q60 q571) rfl rfl rfl (by decide +kernel) ⟨Nat.le_of_ble_eq_true rfl, Nat.le_of_ble_eq_true rfl⟩) rfl hl.1 rfl (Nat.le_of_ble_eq_true rfl) dX1_address_1 ⟨Nat.le_of_ble_eq_true rfl, Nat.le_of_ble_eq_true rfl⟩ (fun E ce q9 w H locs hH hXE h1 h2 h3 => hx_xout hH hXE h1 h2 h3 hex hlocks (Nat.le_of_ble_eq_true rfl) (Nat.le_of_ble_eq_true rfl)) (fun w H locs hH h => ?_)
  refine hx_aload_n C0 dX1_address_4 rfl (lv_at hl 0 rfl) ?_
  refine hx_gR C0 hU hH (ci := 0) rfl in_X1 3 (by decide) q266 (fun _ h9 => h9) h dX1_address_5 (fun r_1 h => ?_)
  refine lv_iload_n hx hb dX1_address_8 rfl (lv_at hl 1 rfl) ?_
  obtain ⟨b_2, rfl, h9⟩ := h
  have h := h9
  clear h9
  refine hx_aI C0 hU hH h dX1_address_9 (fun i_3 h => ?_)
  exact hx_xreti C0 hH hr hlocks h (Nat.le_of_ble_eq_true rfl) (Nat.le_of_ble_eq_true rfl) dX1_address_10
def wp_X1_known (w : Hp) (a0 : Nat) (x1 : Int32) (x2 : Int32) (X : Hp → String → Prop) (K : Hp → Int32 → Prop) : Prop :=
  wp_X1_checkPeer w x1 x2 X fun w => gR w a0 0 6 fun r_1 => dR r_1 fun b_2 => aR w b_2 x1 fun r_3 => dR r_3 fun b_4 => aR w b_4 x2 fun r_5 => dR r_5 fun b_6 => gI w b_6 2 0 fun i_7 => K w i_7
abbrev rm_X1_known : Room := { frames := 8, cells := 3, slots := 18, locals := 123 }
abbrev ws9_X1_known : List Cond := ws_ yX1_known cX1_known 3 (Option.some Jvm.ClassFile.FieldType.int)
abbrev Q9_X1_known (below : List Frame) (args : Array Value) (s : State) (G : hG) (K : Hp → Int32 → Prop) (X : Hp → String → Prop) : State → Prop := vx_MQ below (hx_Qi G K) (hx_XC G X) args s 3 18 (hx_A G)
set_option maxHeartbeats 4000000 in
set_option maxRecDepth 100000 in
theorem wk_X1_known (l : Launch) (hst : l.stackTraces = false) {G : hG} {w : Hp} {a0 : Nat} {x1 : Int32} {x2 : Int32} {K : Hp → Int32 → Prop} {X : Hp → String → Prop} (h : wp_X1_known w a0 x1 x2 X K) : hx_xMi l yX1_known (ws9_X1_known) rm_X1_known G w [.ref a0, .int x1, .int x2] K X 3 18 := by
  refine vx_ofW (cc := cX1_known) (maxL := 3) (ret := (Option.some Jvm.ClassFile.FieldType.int)) (by decide +kernel) rfl ?_
  intro p e s m args below meth c s₁ B hml hex hv
  refine hx_in (own := RX1) (av := [.ref a0, .int x1, .int x2]) (vl := [(0, va_rf (some a0)), (1, .int x1), (2, .int x2)]) rfl rfl (Nat.le_of_ble_eq_true rfl) rfl B hml hv ?_
  intro C0 hU hH hr hlocks hin ls hl
  have hx := C0.1
  have hb := C0.2.1
  have hts := C0.2.2.2.2
  refine lv_iload_n hx hb dX1_known_0 rfl (lv_at hl 1 rfl) ?_
  refine lv_iload_n hx hb dX1_known_1 rfl (lv_at hl 2 rfl) ?_
  refine hx_xSv C0 hU hH (As := [.int x1, .int x2]) (wk_X1_checkPeer l hst h) (va_cwS 2 hts (lw_S q753 q754 q60 q755) rfl rfl rfl (by decide +kernel) ⟨Nat.le_of_ble_eq_true rfl, Nat.le_of_ble_eq_true rfl⟩) rfl hl.1 rfl (Nat.le_of_ble_eq_true rfl) dX1_known_2 ⟨Nat.le_of_ble_eq_true rfl, Nat.le_of_ble_eq_true rfl⟩ (fun E ce q9 w H locs hH hXE h1 h2 h3 => hx_xout hH hXE h1 h2 h3 hex hlocks (Nat.le_of_ble_eq_true rfl) (Nat.le_of_ble_eq_true rfl)) (fun w H locs hH h => ?_)
  refine hx_aload_n C0 dX1_known_5 rfl (lv_at hl 0 rfl) ?_
  refine hx_gR C0 hU hH (ci := 0) rfl in_X1 6 (by decide) q269 (fun _ h9 => h9) h dX1_known_6 (fun r_1 h => ?_)
  refine lv_iload_n hx hb dX1_known_9 rfl (lv_at hl 1 rfl) ?_
  obtain ⟨b_2, rfl, h9⟩ := h
  have h := h9
  clear h9
  refine hx_aR C0 hU hH h dX1_known_10 (fun r_3 h => ?_)
  refine lv_iload_n hx hb dX1_known_11 rfl (lv_at hl 2 rfl) ?_
  obtain ⟨b_4, rfl, h9⟩ := h
  have h := h9
  clear h9
  refine hx_aR C0 hU hH h dX1_known_12 (fun r_5 h => ?_)
  obtain ⟨b_6, rfl, h9⟩ := h
  have h := h9
  clear h9
  refine hx_gIN C0 hU hH (ci := 2) rfl in_X3 0 (by decide) q224 (fun _ h9 => h9) h dX1_known_13 (fun i_7 h => ?_)
  exact hx_xreti C0 hH hr hlocks h (Nat.le_of_ble_eq_true rfl) (Nat.le_of_ble_eq_true rfl) dX1_known_16
def wp_X1_route_b15 (K : Hp → Int32 → Prop) (X : Hp → String → Prop)  (w : Hp)  : Prop :=
  X w eIA
def wp_X1_route (w : Hp) (a0 : Nat) (x1 : Int32) (x2 : Int32) (X : Hp → String → Prop) (K : Hp → Int32 → Prop) : Prop :=
  wp_X1_checkEnd w x1 X fun w => br (x2 < 0) (wp_X1_route_b15 K X w) (br (x2 ≤ (255 : Int32)) (gR w a0 0 5 fun r_3 => dR r_3 fun b_4 => aR w b_4 x1 fun r_5 => dR r_5 fun b_6 => isO w b_6 1 <| wp_X2_route w b_6 x2 fun w i_7 => K w i_7) (wp_X1_route_b15 K X w))
abbrev rm_X1_route : Room := { frames := 7, cells := 2, slots := 12, locals := 102 }
abbrev ws9_X1_route : List Cond := ws_ yX1_route cX1_route 3 (Option.some Jvm.ClassFile.FieldType.int)
abbrev Q9_X1_route (below : List Frame) (args : Array Value) (s : State) (G : hG) (K : Hp → Int32 → Prop) (X : Hp → String → Prop) : State → Prop := vx_MQ below (hx_Qi G K) (hx_XC G X) args s 2 12 (hx_A G)
set_option maxHeartbeats 4000000 in
set_option maxRecDepth 100000 in
theorem wk_X1_route (l : Launch) (hst : l.stackTraces = false) {G : hG} {w : Hp} {a0 : Nat} {x1 : Int32} {x2 : Int32} {K : Hp → Int32 → Prop} {X : Hp → String → Prop} (h : wp_X1_route w a0 x1 x2 X K) : hx_xMi l yX1_route (ws9_X1_route) rm_X1_route G w [.ref a0, .int x1, .int x2] K X 2 12 := by
  refine vx_ofW (cc := cX1_route) (maxL := 3) (ret := (Option.some Jvm.ClassFile.FieldType.int)) (by decide +kernel) rfl ?_
  intro p e s m args below meth c s₁ B hml hex hv
  refine hx_in (own := RX1) (av := [.ref a0, .int x1, .int x2]) (vl := [(0, va_rf (some a0)), (1, .int x1), (2, .int x2)]) rfl rfl (Nat.le_of_ble_eq_true rfl) rfl B hml hv ?_
  intro C0 hU hH hr hlocks hin ls hl
  have hx := C0.1
  have hb := C0.2.1
  have hts := C0.2.2.2.2
  have b15 : ∀ (w : Hp) , wp_X1_route_b15 K X  w  → ∀ (H : Heap) (locs : List Loc) (ls : Array Slot), hx_H G w s H locs → lv_has ls 3 [] → W p l e (headSpec (ws9_X1_route) rm_X1_route).room s m args below meth c H locs (1) (6) (Q9_X1_route below args s G K X) (F0 m 15 ls []) := by
    intro w  h H locs ls hH hl
    exact hx_throw C0 hU hH hst (text := "inner") (cls := eIA) (names := hx_names) hl.1 rfl hx_names_fit q496 q75 q960 hat_eIA good_eIA_51 dX1_route_15 dX1_route_18 dX1_route_19 dX1_route_21 dX1_route_24 hex hlocks h (Nat.le_of_ble_eq_true rfl) (Nat.le_of_ble_eq_true rfl) (Nat.le_of_ble_eq_true rfl) (Nat.le_of_ble_eq_true rfl) (Nat.le_of_ble_eq_true rfl) (Nat.le_of_ble_eq_true rfl)
  refine lv_iload_n hx hb dX1_route_0 rfl (lv_at hl 1 rfl) ?_
  refine hx_xSv C0 hU hH (As := [.int x1]) (wk_X1_checkEnd l hst h) (va_cwS 1 hts (lw_S q569 q570 q60 q571) rfl rfl rfl (by decide +kernel) ⟨Nat.le_of_ble_eq_true rfl, Nat.le_of_ble_eq_true rfl⟩) rfl hl.1 rfl (Nat.le_of_ble_eq_true rfl) dX1_route_1 ⟨Nat.le_of_ble_eq_true rfl, Nat.le_of_ble_eq_true rfl⟩ (fun E ce q9 w H locs hH hXE h1 h2 h3 => hx_xout hH hXE h1 h2 h3 hex hlocks (Nat.le_of_ble_eq_true rfl) (Nat.le_of_ble_eq_true rfl)) (fun w H locs hH h => ?_)
  refine lv_iload_n hx hb dX1_route_4 rfl (lv_at hl 2 rfl) ?_
  refine lv_if_lt hx hb dX1_route_5 (tgt := 15) (by decide) (fun c_1 => ?_) (fun c_1 => ?_)
  · have h := h.1 c_1
    refine W.widen (k := 1) (n := 6) (Nat.le_of_ble_eq_true rfl) (Nat.le_of_ble_eq_true rfl) ?_
    exact b15 _  h _ _ _ hH (lv_sub hl [] rfl)
  · have h := h.2 c_1
    refine lv_iload_n hx hb dX1_route_8 rfl (lv_at hl 2 rfl) ?_
    refine lv_sipush (v := 255) hx hb dX1_route_9 (by decide) ?_
    refine lv_icmp_le hx hb dX1_route_12 (tgt := 25) (by decide) (fun c_2 => ?_) (fun c_2 => ?_)
    · have h := h.1 c_2
      refine hx_aload_n C0 dX1_route_25 rfl (lv_at hl 0 rfl) ?_
      refine hx_gR C0 hU hH (ci := 0) rfl in_X1 5 (by decide) q268 (fun _ h9 => h9) h dX1_route_26 (fun r_3 h => ?_)
      refine lv_iload_n hx hb dX1_route_29 rfl (lv_at hl 1 rfl) ?_
      obtain ⟨b_4, rfl, h9⟩ := h
      have h := h9
      clear h9
      refine hx_aR C0 hU hH h dX1_route_30 (fun r_5 h => ?_)
      refine lv_iload_n hx hb dX1_route_31 rfl (lv_at hl 2 rfl) ?_
      obtain ⟨b_6, rfl, h9⟩ := h
      have h := h9
      clear h9
      obtain ⟨ho, h⟩ := h
      refine hx_VNi C0 hU hH (As := [.int x2]) (wk_X2_route l h) ⟨va_cnB 1 hts (lw_meth q633) rfl rfl rfl (hU.2.2.1 _ q630 rfl) (hts _ q64) (by decide +kernel) ⟨Nat.le_of_ble_eq_true rfl, Nat.le_of_ble_eq_true rfl⟩, hts _ q632, hts _ qs11⟩ (hx_recv hU hH (ci := 1) rfl ho) rfl hl.1 rfl (Nat.le_of_ble_eq_true rfl) dX1_route_32 ⟨Nat.le_of_ble_eq_true rfl, Nat.le_of_ble_eq_true rfl⟩ (fun i_7 w H locs hH h => ?_)
      exact hx_xreti C0 hH hr hlocks h (Nat.le_of_ble_eq_true rfl) (Nat.le_of_ble_eq_true rfl) dX1_route_35
    · have h := h.2 c_2
      refine W.widen (k := 1) (n := 6) (Nat.le_of_ble_eq_true rfl) (Nat.le_of_ble_eq_true rfl) ?_
      exact b15 _  h _ _ _ hH (lv_sub hl [] rfl)
def wp_X1_session_b26 (K : Hp → Int32 → Prop) (X : Hp → String → Prop)  (w : Hp)  : Prop :=
  X w eIA
def wp_X1_session (w : Hp) (a0 : Nat) (x1 : Int32) (x2 : Int32) (x3 : Int32) (x4 : Int32) (X : Hp → String → Prop) (K : Hp → Int32 → Prop) : Prop :=
  wp_X1_checkPeer w x1 x2 X fun w => br (x3 < 0) (wp_X1_session_b26 K X w) (br ((2 : Int32) < x3) (wp_X1_session_b26 K X w) (br (x4 < 0) (wp_X1_session_b26 K X w) (br (x4 ≤ (8 : Int32)) (gR w a0 0 6 fun r_5 => dR r_5 fun b_6 => aR w b_6 x1 fun r_7 => dR r_7 fun b_8 => aR w b_8 x2 fun r_9 => dR r_9 fun b_10 => isO w b_10 2 <| wp_X3_session w b_10 x3 fun w r_11 => br (r_11 = none) (X w eNS) (br (x4 = 0) (dR r_11 fun b_13 => gI w b_13 6 0 fun i_14 => K w i_14) (br (x4 = 1) (dR r_11 fun b_16 => gI w b_16 6 1 fun i_17 => K w i_17) (br (x4 = 2) (dR r_11 fun b_19 => isO w a0 0 <| wp_X1_age w a0 b_19 fun w i_20 => K w i_20) (br (x4 = 3) (dR r_11 fun b_22 => gI w b_22 6 7 fun i_23 => K w i_23) (br (x4 = 4) (dR r_11 fun b_25 => gI w b_25 6 8 fun i_26 => K w i_26) (br (x4 = 5) (dR r_11 fun b_28 => gI w b_28 6 9 fun i_29 => K w i_29) (br (x4 = 6) (dR r_11 fun b_31 => gI w b_31 6 3 fun i_32 => K w i_32) (br (x4 = 7) (dR r_11 fun b_34 => gI w b_34 6 4 fun i_35 => K w i_35) (dR r_11 fun b_37 => gI w b_37 6 5 fun i_38 => br (i_38 = 0) (K w (0 : Int32)) (K w (1 : Int32)))))))))))) (wp_X1_session_b26 K X w))))
abbrev rm_X1_session : Room := { frames := 8, cells := 4, slots := 24, locals := 123 }
abbrev ws9_X1_session : List Cond := ws_ yX1_session cX1_session 6 (Option.some Jvm.ClassFile.FieldType.int)
abbrev Q9_X1_session (below : List Frame) (args : Array Value) (s : State) (G : hG) (K : Hp → Int32 → Prop) (X : Hp → String → Prop) : State → Prop := vx_MQ below (hx_Qi G K) (hx_XC G X) args s 4 24 (hx_A G)
set_option maxHeartbeats 4000000 in
set_option maxRecDepth 100000 in
theorem wk_X1_session (l : Launch) (hst : l.stackTraces = false) {G : hG} {w : Hp} {a0 : Nat} {x1 : Int32} {x2 : Int32} {x3 : Int32} {x4 : Int32} {K : Hp → Int32 → Prop} {X : Hp → String → Prop} (h : wp_X1_session w a0 x1 x2 x3 x4 X K) : hx_xMi l yX1_session (ws9_X1_session) rm_X1_session G w [.ref a0, .int x1, .int x2, .int x3, .int x4] K X 4 24 := by
  refine vx_ofW (cc := cX1_session) (maxL := 6) (ret := (Option.some Jvm.ClassFile.FieldType.int)) (by decide +kernel) rfl ?_
  intro p e s m args below meth c s₁ B hml hex hv
  refine hx_in (own := RX1) (av := [.ref a0, .int x1, .int x2, .int x3, .int x4]) (vl := [(0, va_rf (some a0)), (1, .int x1), (2, .int x2), (3, .int x3), (4, .int x4)]) rfl rfl (Nat.le_of_ble_eq_true rfl) rfl B hml hv ?_
  intro C0 hU hH hr hlocks hin ls hl
  have hx := C0.1
  have hb := C0.2.1
  have hts := C0.2.2.2.2
  have b26 : ∀ (w : Hp) , wp_X1_session_b26 K X  w  → ∀ (H : Heap) (locs : List Loc) (ls : Array Slot), hx_H G w s H locs → lv_has ls 6 [] → W p l e (headSpec (ws9_X1_session) rm_X1_session).room s m args below meth c H locs (3) (18) (Q9_X1_session below args s G K X) (F0 m 26 ls []) := by
    intro w  h H locs ls hH hl
    exact hx_throw C0 hU hH hst (text := "session") (cls := eIA) (names := hx_names) hl.1 rfl hx_names_fit q496 q75 q968 hat_eIA good_eIA_51 dX1_session_26 dX1_session_29 dX1_session_30 dX1_session_32 dX1_session_35 hex hlocks h (Nat.le_of_ble_eq_true rfl) (Nat.le_of_ble_eq_true rfl) (Nat.le_of_ble_eq_true rfl) (Nat.le_of_ble_eq_true rfl) (Nat.le_of_ble_eq_true rfl) (Nat.le_of_ble_eq_true rfl)
  refine lv_iload_n hx hb dX1_session_0 rfl (lv_at hl 1 rfl) ?_
  refine lv_iload_n hx hb dX1_session_1 rfl (lv_at hl 2 rfl) ?_
  refine hx_xSv C0 hU hH (As := [.int x1, .int x2]) (wk_X1_checkPeer l hst h) (va_cwS 2 hts (lw_S q753 q754 q60 q755) rfl rfl rfl (by decide +kernel) ⟨Nat.le_of_ble_eq_true rfl, Nat.le_of_ble_eq_true rfl⟩) rfl hl.1 rfl (Nat.le_of_ble_eq_true rfl) dX1_session_2 ⟨Nat.le_of_ble_eq_true rfl, Nat.le_of_ble_eq_true rfl⟩ (fun E ce q9 w H locs hH hXE h1 h2 h3 => hx_xout hH hXE h1 h2 h3 hex hlocks (Nat.le_of_ble_eq_true rfl) (Nat.le_of_ble_eq_true rfl)) (fun w H locs hH h => ?_)
  refine lv_iload_n hx hb dX1_session_5 rfl (lv_at hl 3 rfl) ?_
  refine lv_if_lt hx hb dX1_session_6 (tgt := 26) (by decide) (fun c_1 => ?_) (fun c_1 => ?_)
  · have h := h.1 c_1
    refine W.widen (k := 3) (n := 18) (Nat.le_of_ble_eq_true rfl) (Nat.le_of_ble_eq_true rfl) ?_
    exact b26 _  h _ _ _ hH (lv_sub hl [] rfl)
  · have h := h.2 c_1
    refine lv_iload_n hx hb dX1_session_9 rfl (lv_at hl 3 rfl) ?_
    refine lv_iconst (v := 2) hx hb dX1_session_10 (by decide) ?_
    refine lv_icmp_gt hx hb dX1_session_11 (tgt := 26) (by decide) (fun c_2 => ?_) (fun c_2 => ?_)
    · have h := h.1 c_2
      refine W.widen (k := 3) (n := 18) (Nat.le_of_ble_eq_true rfl) (Nat.le_of_ble_eq_true rfl) ?_
      exact b26 _  h _ _ _ hH (lv_sub hl [] rfl)
    · have h := h.2 c_2
      refine lv_iload hx hb dX1_session_14 (lv_at hl 4 rfl) ?_
      refine lv_if_lt hx hb dX1_session_16 (tgt := 26) (by decide) (fun c_3 => ?_) (fun c_3 => ?_)
      · have h := h.1 c_3
        refine W.widen (k := 3) (n := 18) (Nat.le_of_ble_eq_true rfl) (Nat.le_of_ble_eq_true rfl) ?_
        exact b26 _  h _ _ _ hH (lv_sub hl [] rfl)
      · have h := h.2 c_3
        refine lv_iload hx hb dX1_session_19 (lv_at hl 4 rfl) ?_
        refine lv_bipush (v := 8) hx hb dX1_session_21 (by decide) ?_
        refine lv_icmp_le hx hb dX1_session_23 (tgt := 36) (by decide) (fun c_4 => ?_) (fun c_4 => ?_)
        · have h := h.1 c_4
          refine hx_aload_n C0 dX1_session_36 rfl (lv_at hl 0 rfl) ?_
          refine hx_gR C0 hU hH (ci := 0) rfl in_X1 6 (by decide) q269 (fun _ h9 => h9) h dX1_session_37 (fun r_5 h => ?_)
          refine lv_iload_n hx hb dX1_session_40 rfl (lv_at hl 1 rfl) ?_
          obtain ⟨b_6, rfl, h9⟩ := h
          have h := h9
          clear h9
          refine hx_aR C0 hU hH h dX1_session_41 (fun r_7 h => ?_)
          refine lv_iload_n hx hb dX1_session_42 rfl (lv_at hl 2 rfl) ?_
          obtain ⟨b_8, rfl, h9⟩ := h
          have h := h9
          clear h9
          refine hx_aR C0 hU hH h dX1_session_43 (fun r_9 h => ?_)
          refine lv_iload_n hx hb dX1_session_44 rfl (lv_at hl 3 rfl) ?_
          obtain ⟨b_10, rfl, h9⟩ := h
          have h := h9
          clear h9
          obtain ⟨ho, h⟩ := h
          refine hx_VNq C0 hU hH (As := [.int x3]) (wk_X3_session l h) ⟨va_cnB 1 hts (lw_meth q325) rfl rfl rfl (hU.2.2.1 _ q322 rfl) (hts _ q70) (by decide +kernel) ⟨Nat.le_of_ble_eq_true rfl, Nat.le_of_ble_eq_true rfl⟩, hts _ q324, hts _ qs4⟩ (hx_recv hU hH (ci := 2) rfl ho) rfl hl.1 rfl (Nat.le_of_ble_eq_true rfl) dX1_session_45 ⟨Nat.le_of_ble_eq_true rfl, Nat.le_of_ble_eq_true rfl⟩ (fun r_11 w H locs hH h => ?_)
          refine hx_astore C0 dX1_session_48 hl (by decide) (lv' := [(5, va_rf r_11), (0, va_rf (some a0)), (1, .int x1), (2, .int x2), (3, .int x3), (4, .int x4)]) rfl (fun ls hl => ?_)
          refine hx_aload C0 dX1_session_50 (lv_at hl 0 rfl) ?_
          refine hx_ifnonnull C0 dX1_session_52 (tgt := 65) (by decide) (fun c_12 => ?_) (fun c_12 => ?_)
          · have h := h.2 c_12
            refine lv_iload hx hb dX1_session_65 (lv_at hl 5 rfl) ?_
            by_cases c_15 : x4 = 0
            · have h := h.1 c_15
              have zc_15 : (x4).toInt = 0 := by rw [c_15]; rfl
              refine lv_tableIn hx hb dX1_session_67 (by rw [zc_15]; decide) (by rw [zc_15]; decide) (by rw [zc_15]; rfl) (tgt := 112) (by decide) ?_
              refine hx_aload C0 dX1_session_112 (lv_at hl 0 rfl) ?_
              obtain ⟨b_13, rfl, h9⟩ := h
              have h := h9
              clear h9
              refine hx_gIN C0 hU hH (ci := 6) rfl in_X7 0 (by decide) q803 (fun _ h9 => h9) h dX1_session_114 (fun i_14 h => ?_)
              exact hx_xreti C0 hH hr hlocks h (Nat.le_of_ble_eq_true rfl) (Nat.le_of_ble_eq_true rfl) dX1_session_117
            have h := h.2 c_15
            have nc_15 : ¬ (x4).toInt = 0 := hx_ni c_15 rfl
            by_cases c_18 : x4 = 1
            · have h := h.1 c_18
              have zc_18 : (x4).toInt = 1 := by rw [c_18]; rfl
              refine lv_tableIn hx hb dX1_session_67 (by rw [zc_18]; decide) (by rw [zc_18]; decide) (by rw [zc_18]; rfl) (tgt := 118) (by decide) ?_
              refine hx_aload C0 dX1_session_118 (lv_at hl 0 rfl) ?_
              obtain ⟨b_16, rfl, h9⟩ := h
              have h := h9
              clear h9
              refine hx_gIN C0 hU hH (ci := 6) rfl in_X7 1 (by decide) q805 (fun _ h9 => h9) h dX1_session_120 (fun i_17 h => ?_)
              exact hx_xreti C0 hH hr hlocks h (Nat.le_of_ble_eq_true rfl) (Nat.le_of_ble_eq_true rfl) dX1_session_123
            have h := h.2 c_18
            have nc_18 : ¬ (x4).toInt = 1 := hx_ni c_18 rfl
            by_cases c_21 : x4 = 2
            · have h := h.1 c_21
              have zc_21 : (x4).toInt = 2 := by rw [c_21]; rfl
              refine lv_tableIn hx hb dX1_session_67 (by rw [zc_21]; decide) (by rw [zc_21]; decide) (by rw [zc_21]; rfl) (tgt := 124) (by decide) ?_
              refine hx_aload_n C0 dX1_session_124 rfl (lv_at hl 1 rfl) ?_
              refine hx_aload C0 dX1_session_125 (lv_at hl 0 rfl) ?_
              obtain ⟨b_19, rfl, h9⟩ := h
              have h := h9
              clear h9
              obtain ⟨ho, h⟩ := h
              refine hx_Vi C0 hU hH (As := [va_rf (some b_19)]) (wk_X1_age l h) (cwV 1 hts (lw_V q314 q316 qs3 q60 q317) rfl rfl rfl (by decide +kernel) ⟨Nat.le_of_ble_eq_true rfl, Nat.le_of_ble_eq_true rfl⟩) (hx_recv hU hH (ci := 0) rfl ho) rfl hl.1 rfl (Nat.le_of_ble_eq_true rfl) dX1_session_127 ⟨Nat.le_of_ble_eq_true rfl, Nat.le_of_ble_eq_true rfl⟩ (fun i_20 w H locs hH h => ?_)
              exact hx_xreti C0 hH hr hlocks h (Nat.le_of_ble_eq_true rfl) (Nat.le_of_ble_eq_true rfl) dX1_session_130
            have h := h.2 c_21
            have nc_21 : ¬ (x4).toInt = 2 := hx_ni c_21 rfl
            by_cases c_24 : x4 = 3
            · have h := h.1 c_24
              have zc_24 : (x4).toInt = 3 := by rw [c_24]; rfl
              refine lv_tableIn hx hb dX1_session_67 (by rw [zc_24]; decide) (by rw [zc_24]; decide) (by rw [zc_24]; rfl) (tgt := 131) (by decide) ?_
              refine hx_aload C0 dX1_session_131 (lv_at hl 0 rfl) ?_
              obtain ⟨b_22, rfl, h9⟩ := h
              have h := h9
              clear h9
              refine hx_gIN C0 hU hH (ci := 6) rfl in_X7 7 (by decide) q816 (fun _ h9 => h9) h dX1_session_133 (fun i_23 h => ?_)
              exact hx_xreti C0 hH hr hlocks h (Nat.le_of_ble_eq_true rfl) (Nat.le_of_ble_eq_true rfl) dX1_session_136
            have h := h.2 c_24
            have nc_24 : ¬ (x4).toInt = 3 := hx_ni c_24 rfl
            by_cases c_27 : x4 = 4
            · have h := h.1 c_27
              have zc_27 : (x4).toInt = 4 := by rw [c_27]; rfl
              refine lv_tableIn hx hb dX1_session_67 (by rw [zc_27]; decide) (by rw [zc_27]; decide) (by rw [zc_27]; rfl) (tgt := 137) (by decide) ?_
              refine hx_aload C0 dX1_session_137 (lv_at hl 0 rfl) ?_
              obtain ⟨b_25, rfl, h9⟩ := h
              have h := h9
              clear h9
              refine hx_gIN C0 hU hH (ci := 6) rfl in_X7 8 (by decide) q818 (fun _ h9 => h9) h dX1_session_139 (fun i_26 h => ?_)
              exact hx_xreti C0 hH hr hlocks h (Nat.le_of_ble_eq_true rfl) (Nat.le_of_ble_eq_true rfl) dX1_session_142
            have h := h.2 c_27
            have nc_27 : ¬ (x4).toInt = 4 := hx_ni c_27 rfl
            by_cases c_30 : x4 = 5
            · have h := h.1 c_30
              have zc_30 : (x4).toInt = 5 := by rw [c_30]; rfl
              refine lv_tableIn hx hb dX1_session_67 (by rw [zc_30]; decide) (by rw [zc_30]; decide) (by rw [zc_30]; rfl) (tgt := 143) (by decide) ?_
              refine hx_aload C0 dX1_session_143 (lv_at hl 0 rfl) ?_
              obtain ⟨b_28, rfl, h9⟩ := h
              have h := h9
              clear h9
              refine hx_gIN C0 hU hH (ci := 6) rfl in_X7 9 (by decide) q820 (fun _ h9 => h9) h dX1_session_145 (fun i_29 h => ?_)
              exact hx_xreti C0 hH hr hlocks h (Nat.le_of_ble_eq_true rfl) (Nat.le_of_ble_eq_true rfl) dX1_session_148
            have h := h.2 c_30
            have nc_30 : ¬ (x4).toInt = 5 := hx_ni c_30 rfl
            by_cases c_33 : x4 = 6
            · have h := h.1 c_33
              have zc_33 : (x4).toInt = 6 := by rw [c_33]; rfl
              refine lv_tableIn hx hb dX1_session_67 (by rw [zc_33]; decide) (by rw [zc_33]; decide) (by rw [zc_33]; rfl) (tgt := 149) (by decide) ?_
              refine hx_aload C0 dX1_session_149 (lv_at hl 0 rfl) ?_
              obtain ⟨b_31, rfl, h9⟩ := h
              have h := h9
              clear h9
              refine hx_gIN C0 hU hH (ci := 6) rfl in_X7 3 (by decide) q809 (fun _ h9 => h9) h dX1_session_151 (fun i_32 h => ?_)
              exact hx_xreti C0 hH hr hlocks h (Nat.le_of_ble_eq_true rfl) (Nat.le_of_ble_eq_true rfl) dX1_session_154
            have h := h.2 c_33
            have nc_33 : ¬ (x4).toInt = 6 := hx_ni c_33 rfl
            by_cases c_36 : x4 = 7
            · have h := h.1 c_36
              have zc_36 : (x4).toInt = 7 := by rw [c_36]; rfl
              refine lv_tableIn hx hb dX1_session_67 (by rw [zc_36]; decide) (by rw [zc_36]; decide) (by rw [zc_36]; rfl) (tgt := 155) (by decide) ?_
              refine hx_aload C0 dX1_session_155 (lv_at hl 0 rfl) ?_
              obtain ⟨b_34, rfl, h9⟩ := h
              have h := h9
              clear h9
              refine hx_gIN C0 hU hH (ci := 6) rfl in_X7 4 (by decide) q811 (fun _ h9 => h9) h dX1_session_157 (fun i_35 h => ?_)
              exact hx_xreti C0 hH hr hlocks h (Nat.le_of_ble_eq_true rfl) (Nat.le_of_ble_eq_true rfl) dX1_session_160
            have h := h.2 c_36
            have nc_36 : ¬ (x4).toInt = 7 := hx_ni c_36 rfl
            refine lv_tableOut hx hb dX1_session_67 (by omega) (tgt := 161) (by decide) ?_
            refine hx_aload C0 dX1_session_161 (lv_at hl 0 rfl) ?_
            obtain ⟨b_37, rfl, h9⟩ := h
            have h := h9
            clear h9
            refine hx_gIN C0 hU hH (ci := 6) rfl in_X7 5 (by decide) q813 (fun _ h9 => h9) h dX1_session_163 (fun i_38 h => ?_)
            refine lv_if_eq hx hb dX1_session_166 (tgt := 173) (by decide) (fun c_39 => ?_) (fun c_39 => ?_)
            · have h := h.1 c_39
              refine lv_iconst (v := 0) hx hb dX1_session_173 (by decide) ?_
              exact hx_xreti C0 hH hr hlocks h (Nat.le_of_ble_eq_true rfl) (Nat.le_of_ble_eq_true rfl) dX1_session_174
            · have h := h.2 c_39
              refine lv_iconst (v := 1) hx hb dX1_session_169 (by decide) ?_
              refine lv_goto hx hb dX1_session_170 (tgt := 174) (by decide) ?_
              exact hx_xreti C0 hH hr hlocks h (Nat.le_of_ble_eq_true rfl) (Nat.le_of_ble_eq_true rfl) dX1_session_174
          · have h := h.1 c_12
            exact hx_throwX C0 hU hH hst (text := "session") (cls := eNS) (Y := "java/lang/RuntimeException") (r := ["java/lang/Exception"]) (ix := 13) (rx := cJ14_init_2) hl.1 rfl rfl (by decide +kernel) dJ14_init_2_0 dJ14_init_2_1 dJ14_init_2_2 dJ14_init_2_5 q617 q80 q968 hat_eNS good_eNS_96 dX1_session_55 dX1_session_58 dX1_session_59 dX1_session_61 dX1_session_64 hex hlocks h (Nat.le_of_ble_eq_true rfl) (Nat.le_of_ble_eq_true rfl) (Nat.le_of_ble_eq_true rfl) (Nat.le_of_ble_eq_true rfl) (Nat.le_of_ble_eq_true rfl) (Nat.le_of_ble_eq_true rfl)
        · have h := h.2 c_4
          refine W.widen (k := 3) (n := 18) (Nat.le_of_ble_eq_true rfl) (Nat.le_of_ble_eq_true rfl) ?_
          exact b26 _  h _ _ _ hH (lv_sub hl [] rfl)
def wp_X1_isUsable_2 (w : Hp) (a0 : Nat) (x1 : Int32) (x2 : Int32) (X : Hp → String → Prop) (K : Hp → Int32 → Prop) : Prop :=
  wp_X1_checkPeer w x1 x2 X fun w => gR w a0 0 6 fun r_1 => dR r_1 fun b_2 => aR w b_2 x1 fun r_3 => dR r_3 fun b_4 => aR w b_4 x2 fun r_5 => dR r_5 fun b_6 => gR w b_6 2 2 fun r_7 => isO w a0 0 <| wp_X1_isUsable w a0 r_7 fun w i_8 => gd (i_8 = 0 ∨ i_8 = 1) <| K w i_8
abbrev rm_X1_isUsable_2 : Room := { frames := 8, cells := 3, slots := 18, locals := 123 }
abbrev ws9_X1_isUsable_2 : List Cond := ws_ yX1_isUsable_2 cX1_isUsable_2 3 (Option.some Jvm.ClassFile.FieldType.boolean)
abbrev Q9_X1_isUsable_2 (below : List Frame) (args : Array Value) (s : State) (G : hG) (K : Hp → Int32 → Prop) (X : Hp → String → Prop) : State → Prop := vx_MQ below (hx_Qi G K) (hx_XC G X) args s 3 18 (hx_A G)
set_option maxHeartbeats 4000000 in
set_option maxRecDepth 100000 in
theorem wk_X1_isUsable_2 (l : Launch) (hst : l.stackTraces = false) {G : hG} {w : Hp} {a0 : Nat} {x1 : Int32} {x2 : Int32} {K : Hp → Int32 → Prop} {X : Hp → String → Prop} (h : wp_X1_isUsable_2 w a0 x1 x2 X K) : hx_xMi l yX1_isUsable_2 (ws9_X1_isUsable_2) rm_X1_isUsable_2 G w [.ref a0, .int x1, .int x2] K X 3 18 := by
  refine vx_ofW (cc := cX1_isUsable_2) (maxL := 3) (ret := (Option.some Jvm.ClassFile.FieldType.boolean)) (by decide +kernel) rfl ?_
  intro p e s m args below meth c s₁ B hml hex hv
  refine hx_in (own := RX1) (av := [.ref a0, .int x1, .int x2]) (vl := [(0, va_rf (some a0)), (1, .int x1), (2, .int x2)]) rfl rfl (Nat.le_of_ble_eq_true rfl) rfl B hml hv ?_
  intro C0 hU hH hr hlocks hin ls hl
  have hx := C0.1
  have hb := C0.2.1
  have hts := C0.2.2.2.2
  refine lv_iload_n hx hb dX1_isUsable_2_0 rfl (lv_at hl 1 rfl) ?_
  refine lv_iload_n hx hb dX1_isUsable_2_1 rfl (lv_at hl 2 rfl) ?_
  refine hx_xSv C0 hU hH (As := [.int x1, .int x2]) (wk_X1_checkPeer l hst h) (va_cwS 2 hts (lw_S q753 q754 q60 q755) rfl rfl rfl (by decide +kernel) ⟨Nat.le_of_ble_eq_true rfl, Nat.le_of_ble_eq_true rfl⟩) rfl hl.1 rfl (Nat.le_of_ble_eq_true rfl) dX1_isUsable_2_2 ⟨Nat.le_of_ble_eq_true rfl, Nat.le_of_ble_eq_true rfl⟩ (fun E ce q9 w H locs hH hXE h1 h2 h3 => hx_xout hH hXE h1 h2 h3 hex hlocks (Nat.le_of_ble_eq_true rfl) (Nat.le_of_ble_eq_true rfl)) (fun w H locs hH h => ?_)
  refine hx_aload_n C0 dX1_isUsable_2_5 rfl (lv_at hl 0 rfl) ?_
  refine hx_aload_n C0 dX1_isUsable_2_6 rfl (lv_at hl 0 rfl) ?_
  refine hx_gR C0 hU hH (ci := 0) rfl in_X1 6 (by decide) q269 (fun _ h9 => h9) h dX1_isUsable_2_7 (fun r_1 h => ?_)
  refine lv_iload_n hx hb dX1_isUsable_2_10 rfl (lv_at hl 1 rfl) ?_
  obtain ⟨b_2, rfl, h9⟩ := h
  have h := h9
  clear h9
  refine hx_aR C0 hU hH h dX1_isUsable_2_11 (fun r_3 h => ?_)
  refine lv_iload_n hx hb dX1_isUsable_2_12 rfl (lv_at hl 2 rfl) ?_
  obtain ⟨b_4, rfl, h9⟩ := h
  have h := h9
  clear h9
  refine hx_aR C0 hU hH h dX1_isUsable_2_13 (fun r_5 h => ?_)
  obtain ⟨b_6, rfl, h9⟩ := h
  have h := h9
  clear h9
  refine hx_gRN C0 hU hH (ci := 2) rfl in_X3 2 (by decide) q228 (fun _ h9 => h9) h dX1_isUsable_2_14 (fun r_7 h => ?_)
  obtain ⟨ho, h⟩ := h
  refine hx_Vi C0 hU hH (As := [va_rf r_7]) (wk_X1_isUsable l h) (cwV 1 hts (lw_V q635 q637 qs12 q60 q638) rfl rfl rfl (by decide +kernel) ⟨Nat.le_of_ble_eq_true rfl, Nat.le_of_ble_eq_true rfl⟩) (hx_recv hU hH (ci := 0) rfl ho) rfl hl.1 rfl (Nat.le_of_ble_eq_true rfl) dX1_isUsable_2_17 ⟨Nat.le_of_ble_eq_true rfl, Nat.le_of_ble_eq_true rfl⟩ (fun i_8 w H locs hH h => ?_)
  obtain ⟨hz, h⟩ := h
  exact hx_xretz C0 hH hr hlocks hz h (Nat.le_of_ble_eq_true rfl) (Nat.le_of_ble_eq_true rfl) dX1_isUsable_2_20
def wp_X1_flight (w : Hp) (a0 : Nat) (x1 : Int32) (x2 : Int32) (X : Hp → String → Prop) (K : Hp → Int32 → Prop) : Prop :=
  wp_X1_checkPeer w x1 x2 X fun w => gR w a0 0 6 fun r_1 => dR r_1 fun b_2 => aR w b_2 x1 fun r_3 => dR r_3 fun b_4 => aR w b_4 x2 fun r_5 => dR r_5 fun b_6 => gR w b_6 2 4 fun r_7 => br (r_7 = none) (K w (-1 : Int32)) (dR r_7 fun b_9 => gI w b_9 5 0 fun i_10 => K w i_10)
abbrev rm_X1_flight : Room := { frames := 8, cells := 3, slots := 18, locals := 123 }
abbrev ws9_X1_flight : List Cond := ws_ yX1_flight cX1_flight 4 (Option.some Jvm.ClassFile.FieldType.int)
abbrev Q9_X1_flight (below : List Frame) (args : Array Value) (s : State) (G : hG) (K : Hp → Int32 → Prop) (X : Hp → String → Prop) : State → Prop := vx_MQ below (hx_Qi G K) (hx_XC G X) args s 3 18 (hx_A G)
set_option maxHeartbeats 4000000 in
set_option maxRecDepth 100000 in
theorem wk_X1_flight (l : Launch) (hst : l.stackTraces = false) {G : hG} {w : Hp} {a0 : Nat} {x1 : Int32} {x2 : Int32} {K : Hp → Int32 → Prop} {X : Hp → String → Prop} (h : wp_X1_flight w a0 x1 x2 X K) : hx_xMi l yX1_flight (ws9_X1_flight) rm_X1_flight G w [.ref a0, .int x1, .int x2] K X 3 18 := by
  refine vx_ofW (cc := cX1_flight) (maxL := 4) (ret := (Option.some Jvm.ClassFile.FieldType.int)) (by decide +kernel) rfl ?_
  intro p e s m args below meth c s₁ B hml hex hv
  refine hx_in (own := RX1) (av := [.ref a0, .int x1, .int x2]) (vl := [(0, va_rf (some a0)), (1, .int x1), (2, .int x2)]) rfl rfl (Nat.le_of_ble_eq_true rfl) rfl B hml hv ?_
  intro C0 hU hH hr hlocks hin ls hl
  have hx := C0.1
  have hb := C0.2.1
  have hts := C0.2.2.2.2
  refine lv_iload_n hx hb dX1_flight_0 rfl (lv_at hl 1 rfl) ?_
  refine lv_iload_n hx hb dX1_flight_1 rfl (lv_at hl 2 rfl) ?_
  refine hx_xSv C0 hU hH (As := [.int x1, .int x2]) (wk_X1_checkPeer l hst h) (va_cwS 2 hts (lw_S q753 q754 q60 q755) rfl rfl rfl (by decide +kernel) ⟨Nat.le_of_ble_eq_true rfl, Nat.le_of_ble_eq_true rfl⟩) rfl hl.1 rfl (Nat.le_of_ble_eq_true rfl) dX1_flight_2 ⟨Nat.le_of_ble_eq_true rfl, Nat.le_of_ble_eq_true rfl⟩ (fun E ce q9 w H locs hH hXE h1 h2 h3 => hx_xout hH hXE h1 h2 h3 hex hlocks (Nat.le_of_ble_eq_true rfl) (Nat.le_of_ble_eq_true rfl)) (fun w H locs hH h => ?_)
  refine hx_aload_n C0 dX1_flight_5 rfl (lv_at hl 0 rfl) ?_
  refine hx_gR C0 hU hH (ci := 0) rfl in_X1 6 (by decide) q269 (fun _ h9 => h9) h dX1_flight_6 (fun r_1 h => ?_)
  refine lv_iload_n hx hb dX1_flight_9 rfl (lv_at hl 1 rfl) ?_
  obtain ⟨b_2, rfl, h9⟩ := h
  have h := h9
  clear h9
  refine hx_aR C0 hU hH h dX1_flight_10 (fun r_3 h => ?_)
  refine lv_iload_n hx hb dX1_flight_11 rfl (lv_at hl 2 rfl) ?_
  obtain ⟨b_4, rfl, h9⟩ := h
  have h := h9
  clear h9
  refine hx_aR C0 hU hH h dX1_flight_12 (fun r_5 h => ?_)
  obtain ⟨b_6, rfl, h9⟩ := h
  have h := h9
  clear h9
  refine hx_gRN C0 hU hH (ci := 2) rfl in_X3 4 (by decide) q231 (fun _ h9 => h9) h dX1_flight_13 (fun r_7 h => ?_)
  refine hx_astore_n C0 dX1_flight_16 rfl hl (by decide) (lv' := [(3, va_rf r_7), (0, va_rf (some a0)), (1, .int x1), (2, .int x2)]) rfl (fun ls hl => ?_)
  refine hx_aload_n C0 dX1_flight_17 rfl (lv_at hl 0 rfl) ?_
  refine hx_ifnonnull C0 dX1_flight_18 (tgt := 25) (by decide) (fun c_8 => ?_) (fun c_8 => ?_)
  · have h := h.2 c_8
    refine hx_aload_n C0 dX1_flight_25 rfl (lv_at hl 0 rfl) ?_
    obtain ⟨b_9, rfl, h9⟩ := h
    have h := h9
    clear h9
    refine hx_gIN C0 hU hH (ci := 5) rfl in_X6 0 (by decide) q718 (fun _ h9 => h9) h dX1_flight_26 (fun i_10 h => ?_)
    exact hx_xreti C0 hH hr hlocks h (Nat.le_of_ble_eq_true rfl) (Nat.le_of_ble_eq_true rfl) dX1_flight_29
  · have h := h.1 c_8
    refine lv_iconst (v := -1) hx hb dX1_flight_21 (by decide) ?_
    refine lv_goto hx hb dX1_flight_22 (tgt := 29) (by decide) ?_
    exact hx_xreti C0 hH hr hlocks h (Nat.le_of_ble_eq_true rfl) (Nat.le_of_ble_eq_true rfl) dX1_flight_29
def wp_X1_waiting (w : Hp) (a0 : Nat) (x1 : Int32) (x2 : Int32) (X : Hp → String → Prop) (K : Hp → Int32 → Prop) : Prop :=
  wp_X1_checkPeer w x1 x2 X fun w => gR w a0 0 6 fun r_1 => dR r_1 fun b_2 => aR w b_2 x1 fun r_3 => dR r_3 fun b_4 => aR w b_4 x2 fun r_5 => dR r_5 fun b_6 => gI w b_6 2 10 fun i_7 => K w i_7
abbrev rm_X1_waiting : Room := { frames := 8, cells := 3, slots := 18, locals := 123 }
abbrev ws9_X1_waiting : List Cond := ws_ yX1_waiting cX1_waiting 3 (Option.some Jvm.ClassFile.FieldType.int)
abbrev Q9_X1_waiting (below : List Frame) (args : Array Value) (s : State) (G : hG) (K : Hp → Int32 → Prop) (X : Hp → String → Prop) : State → Prop := vx_MQ below (hx_Qi G K) (hx_XC G X) args s 3 18 (hx_A G)
set_option maxHeartbeats 4000000 in
set_option maxRecDepth 100000 in
theorem wk_X1_waiting (l : Launch) (hst : l.stackTraces = false) {G : hG} {w : Hp} {a0 : Nat} {x1 : Int32} {x2 : Int32} {K : Hp → Int32 → Prop} {X : Hp → String → Prop} (h : wp_X1_waiting w a0 x1 x2 X K) : hx_xMi l yX1_waiting (ws9_X1_waiting) rm_X1_waiting G w [.ref a0, .int x1, .int x2] K X 3 18 := by
  refine vx_ofW (cc := cX1_waiting) (maxL := 3) (ret := (Option.some Jvm.ClassFile.FieldType.int)) (by decide +kernel) rfl ?_
  intro p e s m args below meth c s₁ B hml hex hv
  refine hx_in (own := RX1) (av := [.ref a0, .int x1, .int x2]) (vl := [(0, va_rf (some a0)), (1, .int x1), (2, .int x2)]) rfl rfl (Nat.le_of_ble_eq_true rfl) rfl B hml hv ?_
  intro C0 hU hH hr hlocks hin ls hl
  have hx := C0.1
  have hb := C0.2.1
  have hts := C0.2.2.2.2
  refine lv_iload_n hx hb dX1_waiting_0 rfl (lv_at hl 1 rfl) ?_
  refine lv_iload_n hx hb dX1_waiting_1 rfl (lv_at hl 2 rfl) ?_
  refine hx_xSv C0 hU hH (As := [.int x1, .int x2]) (wk_X1_checkPeer l hst h) (va_cwS 2 hts (lw_S q753 q754 q60 q755) rfl rfl rfl (by decide +kernel) ⟨Nat.le_of_ble_eq_true rfl, Nat.le_of_ble_eq_true rfl⟩) rfl hl.1 rfl (Nat.le_of_ble_eq_true rfl) dX1_waiting_2 ⟨Nat.le_of_ble_eq_true rfl, Nat.le_of_ble_eq_true rfl⟩ (fun E ce q9 w H locs hH hXE h1 h2 h3 => hx_xout hH hXE h1 h2 h3 hex hlocks (Nat.le_of_ble_eq_true rfl) (Nat.le_of_ble_eq_true rfl)) (fun w H locs hH h => ?_)
  refine hx_aload_n C0 dX1_waiting_5 rfl (lv_at hl 0 rfl) ?_
  refine hx_gR C0 hU hH (ci := 0) rfl in_X1 6 (by decide) q269 (fun _ h9 => h9) h dX1_waiting_6 (fun r_1 h => ?_)
  refine lv_iload_n hx hb dX1_waiting_9 rfl (lv_at hl 1 rfl) ?_
  obtain ⟨b_2, rfl, h9⟩ := h
  have h := h9
  clear h9
  refine hx_aR C0 hU hH h dX1_waiting_10 (fun r_3 h => ?_)
  refine lv_iload_n hx hb dX1_waiting_11 rfl (lv_at hl 2 rfl) ?_
  obtain ⟨b_4, rfl, h9⟩ := h
  have h := h9
  clear h9
  refine hx_aR C0 hU hH h dX1_waiting_12 (fun r_5 h => ?_)
  obtain ⟨b_6, rfl, h9⟩ := h
  have h := h9
  clear h9
  refine hx_gIN C0 hU hH (ci := 2) rfl in_X3 10 (by decide) q239 (fun _ h9 => h9) h dX1_waiting_13 (fun i_7 h => ?_)
  exact hx_xreti C0 hH hr hlocks h (Nat.le_of_ble_eq_true rfl) (Nat.le_of_ble_eq_true rfl) dX1_waiting_16
def wp_X1_cookie (w : Hp) (a0 : Nat) (x1 : Int32) (x2 : Int32) (X : Hp → String → Prop) (K : Hp → Int32 → Prop) : Prop :=
  wp_X1_checkPeer w x1 x2 X fun w => gR w a0 0 6 fun r_1 => dR r_1 fun b_2 => aR w b_2 x1 fun r_3 => dR r_3 fun b_4 => aR w b_4 x2 fun r_5 => dR r_5 fun b_6 => isO w a0 0 <| wp_X1_hasCookie w a0 b_6 fun w i_7 => br (i_7 = 0) (K w (-1 : Int32)) (gI w b_6 2 7 fun i_9 => K w i_9)
abbrev rm_X1_cookie : Room := { frames := 8, cells := 3, slots := 18, locals := 123 }
abbrev ws9_X1_cookie : List Cond := ws_ yX1_cookie cX1_cookie 4 (Option.some Jvm.ClassFile.FieldType.int)
abbrev Q9_X1_cookie (below : List Frame) (args : Array Value) (s : State) (G : hG) (K : Hp → Int32 → Prop) (X : Hp → String → Prop) : State → Prop := vx_MQ below (hx_Qi G K) (hx_XC G X) args s 3 18 (hx_A G)
set_option maxHeartbeats 4000000 in
set_option maxRecDepth 100000 in
theorem wk_X1_cookie (l : Launch) (hst : l.stackTraces = false) {G : hG} {w : Hp} {a0 : Nat} {x1 : Int32} {x2 : Int32} {K : Hp → Int32 → Prop} {X : Hp → String → Prop} (h : wp_X1_cookie w a0 x1 x2 X K) : hx_xMi l yX1_cookie (ws9_X1_cookie) rm_X1_cookie G w [.ref a0, .int x1, .int x2] K X 3 18 := by
  refine vx_ofW (cc := cX1_cookie) (maxL := 4) (ret := (Option.some Jvm.ClassFile.FieldType.int)) (by decide +kernel) rfl ?_
  intro p e s m args below meth c s₁ B hml hex hv
  refine hx_in (own := RX1) (av := [.ref a0, .int x1, .int x2]) (vl := [(0, va_rf (some a0)), (1, .int x1), (2, .int x2)]) rfl rfl (Nat.le_of_ble_eq_true rfl) rfl B hml hv ?_
  intro C0 hU hH hr hlocks hin ls hl
  have hx := C0.1
  have hb := C0.2.1
  have hts := C0.2.2.2.2
  refine lv_iload_n hx hb dX1_cookie_0 rfl (lv_at hl 1 rfl) ?_
  refine lv_iload_n hx hb dX1_cookie_1 rfl (lv_at hl 2 rfl) ?_
  refine hx_xSv C0 hU hH (As := [.int x1, .int x2]) (wk_X1_checkPeer l hst h) (va_cwS 2 hts (lw_S q753 q754 q60 q755) rfl rfl rfl (by decide +kernel) ⟨Nat.le_of_ble_eq_true rfl, Nat.le_of_ble_eq_true rfl⟩) rfl hl.1 rfl (Nat.le_of_ble_eq_true rfl) dX1_cookie_2 ⟨Nat.le_of_ble_eq_true rfl, Nat.le_of_ble_eq_true rfl⟩ (fun E ce q9 w H locs hH hXE h1 h2 h3 => hx_xout hH hXE h1 h2 h3 hex hlocks (Nat.le_of_ble_eq_true rfl) (Nat.le_of_ble_eq_true rfl)) (fun w H locs hH h => ?_)
  refine hx_aload_n C0 dX1_cookie_5 rfl (lv_at hl 0 rfl) ?_
  refine hx_gR C0 hU hH (ci := 0) rfl in_X1 6 (by decide) q269 (fun _ h9 => h9) h dX1_cookie_6 (fun r_1 h => ?_)
  refine lv_iload_n hx hb dX1_cookie_9 rfl (lv_at hl 1 rfl) ?_
  obtain ⟨b_2, rfl, h9⟩ := h
  have h := h9
  clear h9
  refine hx_aR C0 hU hH h dX1_cookie_10 (fun r_3 h => ?_)
  refine lv_iload_n hx hb dX1_cookie_11 rfl (lv_at hl 2 rfl) ?_
  obtain ⟨b_4, rfl, h9⟩ := h
  have h := h9
  clear h9
  refine hx_aR C0 hU hH h dX1_cookie_12 (fun r_5 h => ?_)
  refine hx_astore_n C0 dX1_cookie_13 rfl hl (by decide) (lv' := [(3, va_rf r_5), (0, va_rf (some a0)), (1, .int x1), (2, .int x2)]) rfl (fun ls hl => ?_)
  refine hx_aload_n C0 dX1_cookie_14 rfl (lv_at hl 1 rfl) ?_
  refine hx_aload_n C0 dX1_cookie_15 rfl (lv_at hl 0 rfl) ?_
  obtain ⟨b_6, rfl, h9⟩ := h
  have h := h9
  clear h9
  obtain ⟨ho, h⟩ := h
  refine hx_Vi C0 hU hH (As := [va_rf (some b_6)]) (wk_X1_hasCookie l h) (cwV 1 hts (lw_V q707 q709 qs17 q60 q710) rfl rfl rfl (by decide +kernel) ⟨Nat.le_of_ble_eq_true rfl, Nat.le_of_ble_eq_true rfl⟩) (hx_recv hU hH (ci := 0) rfl ho) rfl hl.1 rfl (Nat.le_of_ble_eq_true rfl) dX1_cookie_16 ⟨Nat.le_of_ble_eq_true rfl, Nat.le_of_ble_eq_true rfl⟩ (fun i_7 w H locs hH h => ?_)
  refine lv_if_eq hx hb dX1_cookie_19 (tgt := 29) (by decide) (fun c_8 => ?_) (fun c_8 => ?_)
  · have h := h.1 c_8
    refine lv_iconst (v := -1) hx hb dX1_cookie_29 (by decide) ?_
    exact hx_xreti C0 hH hr hlocks h (Nat.le_of_ble_eq_true rfl) (Nat.le_of_ble_eq_true rfl) dX1_cookie_30
  · have h := h.2 c_8
    refine hx_aload_n C0 dX1_cookie_22 rfl (lv_at hl 0 rfl) ?_
    refine hx_gIN C0 hU hH (ci := 2) rfl in_X3 7 (by decide) q235 (fun _ h9 => h9) h dX1_cookie_23 (fun i_9 h => ?_)
    refine lv_goto hx hb dX1_cookie_26 (tgt := 30) (by decide) ?_
    exact hx_xreti C0 hH hr hlocks h (Nat.le_of_ble_eq_true rfl) (Nat.le_of_ble_eq_true rfl) dX1_cookie_30
def wp_X1_stamp (w : Hp) (a0 : Nat) (x1 : Int32) (x2 : Int32) (x3 : Int32) (X : Hp → String → Prop) (K : Hp → Int32 → Prop) : Prop :=
  wp_X1_checkPeer w x1 x2 X fun w => gR w a0 0 6 fun r_1 => dR r_1 fun b_2 => aR w b_2 x1 fun r_3 => dR r_3 fun b_4 => aR w b_4 x2 fun r_5 => br (x3 = 0) (dR r_5 fun b_7 => gI w b_7 2 5 fun i_8 => K w i_8) (dR r_5 fun b_9 => gI w b_9 2 6 fun i_10 => K w i_10)
abbrev rm_X1_stamp : Room := { frames := 8, cells := 3, slots := 18, locals := 123 }
abbrev ws9_X1_stamp : List Cond := ws_ yX1_stamp cX1_stamp 5 (Option.some Jvm.ClassFile.FieldType.int)
abbrev Q9_X1_stamp (below : List Frame) (args : Array Value) (s : State) (G : hG) (K : Hp → Int32 → Prop) (X : Hp → String → Prop) : State → Prop := vx_MQ below (hx_Qi G K) (hx_XC G X) args s 3 18 (hx_A G)
set_option maxHeartbeats 4000000 in
set_option maxRecDepth 100000 in
theorem wk_X1_stamp (l : Launch) (hst : l.stackTraces = false) {G : hG} {w : Hp} {a0 : Nat} {x1 : Int32} {x2 : Int32} {x3 : Int32} {K : Hp → Int32 → Prop} {X : Hp → String → Prop} (h : wp_X1_stamp w a0 x1 x2 x3 X K) : hx_xMi l yX1_stamp (ws9_X1_stamp) rm_X1_stamp G w [.ref a0, .int x1, .int x2, .int x3] K X 3 18 := by
  refine vx_ofW (cc := cX1_stamp) (maxL := 5) (ret := (Option.some Jvm.ClassFile.FieldType.int)) (by decide +kernel) rfl ?_
  intro p e s m args below meth c s₁ B hml hex hv
  refine hx_in (own := RX1) (av := [.ref a0, .int x1, .int x2, .int x3]) (vl := [(0, va_rf (some a0)), (1, .int x1), (2, .int x2), (3, .int x3)]) rfl rfl (Nat.le_of_ble_eq_true rfl) rfl B hml hv ?_
  intro C0 hU hH hr hlocks hin ls hl
  have hx := C0.1
  have hb := C0.2.1
  have hts := C0.2.2.2.2
  refine lv_iload_n hx hb dX1_stamp_0 rfl (lv_at hl 1 rfl) ?_
  refine lv_iload_n hx hb dX1_stamp_1 rfl (lv_at hl 2 rfl) ?_
  refine hx_xSv C0 hU hH (As := [.int x1, .int x2]) (wk_X1_checkPeer l hst h) (va_cwS 2 hts (lw_S q753 q754 q60 q755) rfl rfl rfl (by decide +kernel) ⟨Nat.le_of_ble_eq_true rfl, Nat.le_of_ble_eq_true rfl⟩) rfl hl.1 rfl (Nat.le_of_ble_eq_true rfl) dX1_stamp_2 ⟨Nat.le_of_ble_eq_true rfl, Nat.le_of_ble_eq_true rfl⟩ (fun E ce q9 w H locs hH hXE h1 h2 h3 => hx_xout hH hXE h1 h2 h3 hex hlocks (Nat.le_of_ble_eq_true rfl) (Nat.le_of_ble_eq_true rfl)) (fun w H locs hH h => ?_)
  refine hx_aload_n C0 dX1_stamp_5 rfl (lv_at hl 0 rfl) ?_
  refine hx_gR C0 hU hH (ci := 0) rfl in_X1 6 (by decide) q269 (fun _ h9 => h9) h dX1_stamp_6 (fun r_1 h => ?_)
  refine lv_iload_n hx hb dX1_stamp_9 rfl (lv_at hl 1 rfl) ?_
  obtain ⟨b_2, rfl, h9⟩ := h
  have h := h9
  clear h9
  refine hx_aR C0 hU hH h dX1_stamp_10 (fun r_3 h => ?_)
  refine lv_iload_n hx hb dX1_stamp_11 rfl (lv_at hl 2 rfl) ?_
  obtain ⟨b_4, rfl, h9⟩ := h
  have h := h9
  clear h9
  refine hx_aR C0 hU hH h dX1_stamp_12 (fun r_5 h => ?_)
  refine hx_astore C0 dX1_stamp_13 hl (by decide) (lv' := [(4, va_rf r_5), (0, va_rf (some a0)), (1, .int x1), (2, .int x2), (3, .int x3)]) rfl (fun ls hl => ?_)
  refine lv_iload_n hx hb dX1_stamp_15 rfl (lv_at hl 4 rfl) ?_
  refine lv_if_eq hx hb dX1_stamp_16 (tgt := 27) (by decide) (fun c_6 => ?_) (fun c_6 => ?_)
  · have h := h.1 c_6
    refine hx_aload C0 dX1_stamp_27 (lv_at hl 0 rfl) ?_
    obtain ⟨b_7, rfl, h9⟩ := h
    have h := h9
    clear h9
    refine hx_gIN C0 hU hH (ci := 2) rfl in_X3 5 (by decide) q232 (fun _ h9 => h9) h dX1_stamp_29 (fun i_8 h => ?_)
    exact hx_xreti C0 hH hr hlocks h (Nat.le_of_ble_eq_true rfl) (Nat.le_of_ble_eq_true rfl) dX1_stamp_32
  · have h := h.2 c_6
    refine hx_aload C0 dX1_stamp_19 (lv_at hl 0 rfl) ?_
    obtain ⟨b_9, rfl, h9⟩ := h
    have h := h9
    clear h9
    refine hx_gIN C0 hU hH (ci := 2) rfl in_X3 6 (by decide) q233 (fun _ h9 => h9) h dX1_stamp_21 (fun i_10 h => ?_)
    refine lv_goto hx hb dX1_stamp_24 (tgt := 32) (by decide) ?_
    exact hx_xreti C0 hH hr hlocks h (Nat.le_of_ble_eq_true rfl) (Nat.le_of_ble_eq_true rfl) dX1_stamp_32
def wp_X1_outs (w : Hp) (a0 : Nat) (x1 : Int32) (X : Hp → String → Prop) (K : Hp → Int32 → Prop) : Prop :=
  wp_X1_checkEnd w x1 X fun w => gR w a0 0 8 fun r_1 => dR r_1 fun b_2 => isO w b_2 7 <| wp_J2_get w b_2 x1 fun w r_3 => ckO w r_3 7 <| dR r_3 fun b_4 => isO w b_4 7 <| wp_J2_size w b_4 fun w i_5 => K w i_5
abbrev rm_X1_outs : Room := { frames := 7, cells := 1, slots := 6, locals := 102 }
abbrev ws9_X1_outs : List Cond := ws_ yX1_outs cX1_outs 2 (Option.some Jvm.ClassFile.FieldType.int)
abbrev Q9_X1_outs (below : List Frame) (args : Array Value) (s : State) (G : hG) (K : Hp → Int32 → Prop) (X : Hp → String → Prop) : State → Prop := vx_MQ below (hx_Qi G K) (hx_XC G X) args s 1 6 (hx_A G)
set_option maxHeartbeats 4000000 in
set_option maxRecDepth 100000 in
theorem wk_X1_outs (l : Launch) (hst : l.stackTraces = false) {G : hG} {w : Hp} {a0 : Nat} {x1 : Int32} {K : Hp → Int32 → Prop} {X : Hp → String → Prop} (h : wp_X1_outs w a0 x1 X K) : hx_xMi l yX1_outs (ws9_X1_outs) rm_X1_outs G w [.ref a0, .int x1] K X 1 6 := by
  refine vx_ofW (cc := cX1_outs) (maxL := 2) (ret := (Option.some Jvm.ClassFile.FieldType.int)) (by decide +kernel) rfl ?_
  intro p e s m args below meth c s₁ B hml hex hv
  refine hx_in (own := RX1) (av := [.ref a0, .int x1]) (vl := [(0, va_rf (some a0)), (1, .int x1)]) rfl rfl (Nat.le_of_ble_eq_true rfl) rfl B hml hv ?_
  intro C0 hU hH hr hlocks hin ls hl
  have hx := C0.1
  have hb := C0.2.1
  have hts := C0.2.2.2.2
  refine lv_iload_n hx hb dX1_outs_0 rfl (lv_at hl 1 rfl) ?_
  refine hx_xSv C0 hU hH (As := [.int x1]) (wk_X1_checkEnd l hst h) (va_cwS 1 hts (lw_S q569 q570 q60 q571) rfl rfl rfl (by decide +kernel) ⟨Nat.le_of_ble_eq_true rfl, Nat.le_of_ble_eq_true rfl⟩) rfl hl.1 rfl (Nat.le_of_ble_eq_true rfl) dX1_outs_1 ⟨Nat.le_of_ble_eq_true rfl, Nat.le_of_ble_eq_true rfl⟩ (fun E ce q9 w H locs hH hXE h1 h2 h3 => hx_xout hH hXE h1 h2 h3 hex hlocks (Nat.le_of_ble_eq_true rfl) (Nat.le_of_ble_eq_true rfl)) (fun w H locs hH h => ?_)
  refine hx_aload_n C0 dX1_outs_4 rfl (lv_at hl 0 rfl) ?_
  refine hx_gR C0 hU hH (ci := 0) rfl in_X1 8 (by decide) q271 (fun _ h9 => h9) h dX1_outs_5 (fun r_1 h => ?_)
  refine lv_iload_n hx hb dX1_outs_8 rfl (lv_at hl 1 rfl) ?_
  obtain ⟨b_2, rfl, h9⟩ := h
  have h := h9
  clear h9
  obtain ⟨ho, h⟩ := h
  refine hx_Vq C0 hU hH (As := [.int x1]) (wk_J2_get l h) (cwV 1 hts (lw_V q468 q469 q470 q63 q471) rfl rfl rfl (by decide +kernel) ⟨Nat.le_of_ble_eq_true rfl, Nat.le_of_ble_eq_true rfl⟩) (hx_recv hU hH (ci := 7) rfl ho) rfl hl.1 rfl (Nat.le_of_ble_eq_true rfl) dX1_outs_9 ⟨Nat.le_of_ble_eq_true rfl, Nat.le_of_ble_eq_true rfl⟩ (fun r_3 w H locs hH h => ?_)
  refine hx_ckO C0 hU hH (ci := 7) rfl q101 h dX1_outs_12 (fun h => ?_)
  obtain ⟨b_4, rfl, h9⟩ := h
  have h := h9
  clear h9
  obtain ⟨ho, h⟩ := h
  refine hx_Vi C0 hU hH (As := []) (wk_J2_size l h) (cwV 0 hts (lw_V q302 q303 q304 q63 q305) rfl rfl rfl (by decide +kernel) ⟨Nat.le_of_ble_eq_true rfl, Nat.le_of_ble_eq_true rfl⟩) (hx_recv hU hH (ci := 7) rfl ho) rfl hl.1 rfl (Nat.le_of_ble_eq_true rfl) dX1_outs_15 ⟨Nat.le_of_ble_eq_true rfl, Nat.le_of_ble_eq_true rfl⟩ (fun i_5 w H locs hH h => ?_)
  exact hx_xreti C0 hH hr hlocks h (Nat.le_of_ble_eq_true rfl) (Nat.le_of_ble_eq_true rfl) dX1_outs_18
def wp_X1_out_b46 (K : Hp → Int32 → Prop) (X : Hp → String → Prop)  (w : Hp)  : Prop :=
  X w eIA
def wp_X1_out_b26 (K : Hp → Int32 → Prop) (X : Hp → String → Prop)  (w : Hp)  : Prop :=
  X w eIO
def wp_X1_out (w : Hp) (a0 : Nat) (x1 : Int32) (x2 : Int32) (x3 : Int32) (X : Hp → String → Prop) (K : Hp → Int32 → Prop) : Prop :=
  wp_X1_checkEnd w x1 X fun w => br (x2 < 0) (wp_X1_out_b26 K X w) (gR w a0 0 8 fun r_2 => dR r_2 fun b_3 => isO w b_3 7 <| wp_J2_get w b_3 x1 fun w r_4 => ckO w r_4 7 <| dR r_4 fun b_5 => isO w b_5 7 <| wp_J2_size w b_5 fun w i_6 => br (x2 < i_6) (br (x3 < 0) (wp_X1_out_b46 K X w) (br (x3 ≤ (3 : Int32)) (gR w a0 0 8 fun r_10 => dR r_10 fun b_11 => isO w b_11 7 <| wp_J2_get w b_11 x1 fun w r_12 => ckO w r_12 7 <| dR r_12 fun b_13 => isO w b_13 7 <| wp_J2_get w b_13 x2 fun w r_14 => ckI w r_14 <| dR r_14 fun b_15 => aI w b_15 x3 fun i_16 => K w i_16) (wp_X1_out_b46 K X w))) (wp_X1_out_b26 K X w))
abbrev rm_X1_out : Room := { frames := 7, cells := 2, slots := 12, locals := 102 }
abbrev ws9_X1_out : List Cond := ws_ yX1_out cX1_out 4 (Option.some Jvm.ClassFile.FieldType.int)
abbrev Q9_X1_out (below : List Frame) (args : Array Value) (s : State) (G : hG) (K : Hp → Int32 → Prop) (X : Hp → String → Prop) : State → Prop := vx_MQ below (hx_Qi G K) (hx_XC G X) args s 2 12 (hx_A G)
set_option maxHeartbeats 4000000 in
set_option maxRecDepth 100000 in
theorem wk_X1_out (l : Launch) (hst : l.stackTraces = false) {G : hG} {w : Hp} {a0 : Nat} {x1 : Int32} {x2 : Int32} {x3 : Int32} {K : Hp → Int32 → Prop} {X : Hp → String → Prop} (h : wp_X1_out w a0 x1 x2 x3 X K) : hx_xMi l yX1_out (ws9_X1_out) rm_X1_out G w [.ref a0, .int x1, .int x2, .int x3] K X 2 12 := by
  refine vx_ofW (cc := cX1_out) (maxL := 4) (ret := (Option.some Jvm.ClassFile.FieldType.int)) (by decide +kernel) rfl ?_
  intro p e s m args below meth c s₁ B hml hex hv
  refine hx_in (own := RX1) (av := [.ref a0, .int x1, .int x2, .int x3]) (vl := [(0, va_rf (some a0)), (1, .int x1), (2, .int x2), (3, .int x3)]) rfl rfl (Nat.le_of_ble_eq_true rfl) rfl B hml hv ?_
  intro C0 hU hH hr hlocks hin ls hl
  have hx := C0.1
  have hb := C0.2.1
  have hts := C0.2.2.2.2
  have b46 : ∀ (w : Hp) , wp_X1_out_b46 K X  w  → ∀ (H : Heap) (locs : List Loc) (ls : Array Slot), hx_H G w s H locs → lv_has ls 4 [] → W p l e (headSpec (ws9_X1_out) rm_X1_out).room s m args below meth c H locs (1) (6) (Q9_X1_out below args s G K X) (F0 m 46 ls []) := by
    intro w  h H locs ls hH hl
    exact hx_throw C0 hU hH hst (text := "what") (cls := eIA) (names := hx_names) hl.1 rfl hx_names_fit q496 q75 q931 hat_eIA good_eIA_51 dX1_out_46 dX1_out_49 dX1_out_50 dX1_out_52 dX1_out_55 hex hlocks h (Nat.le_of_ble_eq_true rfl) (Nat.le_of_ble_eq_true rfl) (Nat.le_of_ble_eq_true rfl) (Nat.le_of_ble_eq_true rfl) (Nat.le_of_ble_eq_true rfl) (Nat.le_of_ble_eq_true rfl)
  have b26 : ∀ (w : Hp) , wp_X1_out_b26 K X  w  → ∀ (H : Heap) (locs : List Loc) (ls : Array Slot), hx_H G w s H locs → lv_has ls 4 [] → W p l e (headSpec (ws9_X1_out) rm_X1_out).room s m args below meth c H locs (1) (6) (Q9_X1_out below args s G K X) (F0 m 26 ls []) := by
    intro w  h H locs ls hH hl
    exact hx_throwW C0 hU hH hst (text := "place") (cls := eIO) (names := hx_names) hl.1 rfl hx_names_fit q572 q77 q1018 hat_eIO good_eIO_259 dX1_out_26 dX1_out_29 dX1_out_30 dX1_out_33 dX1_out_36 hex hlocks h (Nat.le_of_ble_eq_true rfl) (Nat.le_of_ble_eq_true rfl) (Nat.le_of_ble_eq_true rfl) (Nat.le_of_ble_eq_true rfl) (Nat.le_of_ble_eq_true rfl) (Nat.le_of_ble_eq_true rfl)
  refine lv_iload_n hx hb dX1_out_0 rfl (lv_at hl 1 rfl) ?_
  refine hx_xSv C0 hU hH (As := [.int x1]) (wk_X1_checkEnd l hst h) (va_cwS 1 hts (lw_S q569 q570 q60 q571) rfl rfl rfl (by decide +kernel) ⟨Nat.le_of_ble_eq_true rfl, Nat.le_of_ble_eq_true rfl⟩) rfl hl.1 rfl (Nat.le_of_ble_eq_true rfl) dX1_out_1 ⟨Nat.le_of_ble_eq_true rfl, Nat.le_of_ble_eq_true rfl⟩ (fun E ce q9 w H locs hH hXE h1 h2 h3 => hx_xout hH hXE h1 h2 h3 hex hlocks (Nat.le_of_ble_eq_true rfl) (Nat.le_of_ble_eq_true rfl)) (fun w H locs hH h => ?_)
  refine lv_iload_n hx hb dX1_out_4 rfl (lv_at hl 2 rfl) ?_
  refine lv_if_lt hx hb dX1_out_5 (tgt := 26) (by decide) (fun c_1 => ?_) (fun c_1 => ?_)
  · have h := h.1 c_1
    refine W.widen (k := 1) (n := 6) (Nat.le_of_ble_eq_true rfl) (Nat.le_of_ble_eq_true rfl) ?_
    exact b26 _  h _ _ _ hH (lv_sub hl [] rfl)
  · have h := h.2 c_1
    refine lv_iload_n hx hb dX1_out_8 rfl (lv_at hl 2 rfl) ?_
    refine hx_aload_n C0 dX1_out_9 rfl (lv_at hl 0 rfl) ?_
    refine hx_gR C0 hU hH (ci := 0) rfl in_X1 8 (by decide) q271 (fun _ h9 => h9) h dX1_out_10 (fun r_2 h => ?_)
    refine lv_iload_n hx hb dX1_out_13 rfl (lv_at hl 1 rfl) ?_
    obtain ⟨b_3, rfl, h9⟩ := h
    have h := h9
    clear h9
    obtain ⟨ho, h⟩ := h
    refine hx_Vq C0 hU hH (As := [.int x1]) (wk_J2_get l h) (cwV 1 hts (lw_V q468 q469 q470 q63 q471) rfl rfl rfl (by decide +kernel) ⟨Nat.le_of_ble_eq_true rfl, Nat.le_of_ble_eq_true rfl⟩) (hx_recv hU hH (ci := 7) rfl ho) rfl hl.1 rfl (Nat.le_of_ble_eq_true rfl) dX1_out_14 ⟨Nat.le_of_ble_eq_true rfl, Nat.le_of_ble_eq_true rfl⟩ (fun r_4 w H locs hH h => ?_)
    refine hx_ckO C0 hU hH (ci := 7) rfl q101 h dX1_out_17 (fun h => ?_)
    obtain ⟨b_5, rfl, h9⟩ := h
    have h := h9
    clear h9
    obtain ⟨ho, h⟩ := h
    refine hx_Vi C0 hU hH (As := []) (wk_J2_size l h) (cwV 0 hts (lw_V q302 q303 q304 q63 q305) rfl rfl rfl (by decide +kernel) ⟨Nat.le_of_ble_eq_true rfl, Nat.le_of_ble_eq_true rfl⟩) (hx_recv hU hH (ci := 7) rfl ho) rfl hl.1 rfl (Nat.le_of_ble_eq_true rfl) dX1_out_20 ⟨Nat.le_of_ble_eq_true rfl, Nat.le_of_ble_eq_true rfl⟩ (fun i_6 w H locs hH h => ?_)
    refine lv_icmp_lt hx hb dX1_out_23 (tgt := 37) (by decide) (fun c_7 => ?_) (fun c_7 => ?_)
    · have h := h.1 c_7
      refine lv_iload_n hx hb dX1_out_37 rfl (lv_at hl 3 rfl) ?_
      refine lv_if_lt hx hb dX1_out_38 (tgt := 46) (by decide) (fun c_8 => ?_) (fun c_8 => ?_)
      · have h := h.1 c_8
        refine W.widen (k := 1) (n := 6) (Nat.le_of_ble_eq_true rfl) (Nat.le_of_ble_eq_true rfl) ?_
        exact b46 _  h _ _ _ hH (lv_sub hl [] rfl)
      · have h := h.2 c_8
        refine lv_iload_n hx hb dX1_out_41 rfl (lv_at hl 3 rfl) ?_
        refine lv_iconst (v := 3) hx hb dX1_out_42 (by decide) ?_
        refine lv_icmp_le hx hb dX1_out_43 (tgt := 56) (by decide) (fun c_9 => ?_) (fun c_9 => ?_)
        · have h := h.1 c_9
          refine hx_aload_n C0 dX1_out_56 rfl (lv_at hl 0 rfl) ?_
          refine hx_gR C0 hU hH (ci := 0) rfl in_X1 8 (by decide) q271 (fun _ h9 => h9) h dX1_out_57 (fun r_10 h => ?_)
          refine lv_iload_n hx hb dX1_out_60 rfl (lv_at hl 1 rfl) ?_
          obtain ⟨b_11, rfl, h9⟩ := h
          have h := h9
          clear h9
          obtain ⟨ho, h⟩ := h
          refine hx_Vq C0 hU hH (As := [.int x1]) (wk_J2_get l h) (cwV 1 hts (lw_V q468 q469 q470 q63 q471) rfl rfl rfl (by decide +kernel) ⟨Nat.le_of_ble_eq_true rfl, Nat.le_of_ble_eq_true rfl⟩) (hx_recv hU hH (ci := 7) rfl ho) rfl hl.1 rfl (Nat.le_of_ble_eq_true rfl) dX1_out_61 ⟨Nat.le_of_ble_eq_true rfl, Nat.le_of_ble_eq_true rfl⟩ (fun r_12 w H locs hH h => ?_)
          refine hx_ckO C0 hU hH (ci := 7) rfl q101 h dX1_out_64 (fun h => ?_)
          refine lv_iload_n hx hb dX1_out_67 rfl (lv_at hl 2 rfl) ?_
          obtain ⟨b_13, rfl, h9⟩ := h
          have h := h9
          clear h9
          obtain ⟨ho, h⟩ := h
          refine hx_Vq C0 hU hH (As := [.int x2]) (wk_J2_get l h) (cwV 1 hts (lw_V q468 q469 q470 q63 q471) rfl rfl rfl (by decide +kernel) ⟨Nat.le_of_ble_eq_true rfl, Nat.le_of_ble_eq_true rfl⟩) (hx_recv hU hH (ci := 7) rfl ho) rfl hl.1 rfl (Nat.le_of_ble_eq_true rfl) dX1_out_68 ⟨Nat.le_of_ble_eq_true rfl, Nat.le_of_ble_eq_true rfl⟩ (fun r_14 w H locs hH h => ?_)
          refine hx_ckI C0 hU hH q482 h dX1_out_71 (fun h => ?_)
          refine lv_iload_n hx hb dX1_out_74 rfl (lv_at hl 3 rfl) ?_
          obtain ⟨b_15, rfl, h9⟩ := h
          have h := h9
          clear h9
          refine hx_aI C0 hU hH h dX1_out_75 (fun i_16 h => ?_)
          exact hx_xreti C0 hH hr hlocks h (Nat.le_of_ble_eq_true rfl) (Nat.le_of_ble_eq_true rfl) dX1_out_76
        · have h := h.2 c_9
          refine W.widen (k := 1) (n := 6) (Nat.le_of_ble_eq_true rfl) (Nat.le_of_ble_eq_true rfl) ?_
          exact b46 _  h _ _ _ hH (lv_sub hl [] rfl)
    · have h := h.2 c_7
      refine W.widen (k := 1) (n := 6) (Nat.le_of_ble_eq_true rfl) (Nat.le_of_ble_eq_true rfl) ?_
      exact b26 _  h _ _ _ hH (lv_sub hl [] rfl)
def wp_X1_drops_b11 (K : Hp → Int32 → Prop) (X : Hp → String → Prop)  (w : Hp)  : Prop :=
  X w eIA
def wp_X1_drops (w : Hp) (a0 : Nat) (x1 : Int32) (X : Hp → String → Prop) (K : Hp → Int32 → Prop) : Prop :=
  br (x1 < (-7 : Int32)) (wp_X1_drops_b11 K X w) (br (x1 ≤ (3 : Int32)) (gR w a0 0 9 fun r_3 => dR r_3 fun b_4 => aI w b_4 (x1 + (7 : Int32)) fun i_5 => K w i_5) (wp_X1_drops_b11 K X w))
abbrev rm_X1_drops : Room := { frames := 6, cells := 1, slots := 6, locals := 82 }
abbrev ws9_X1_drops : List Cond := ws_ yX1_drops cX1_drops 2 (Option.some Jvm.ClassFile.FieldType.int)
abbrev Q9_X1_drops (below : List Frame) (args : Array Value) (s : State) (G : hG) (K : Hp → Int32 → Prop) (X : Hp → String → Prop) : State → Prop := vx_MQ below (hx_Qi G K) (hx_XC G X) args s 1 6 (hx_A G)
set_option maxHeartbeats 4000000 in
set_option maxRecDepth 100000 in
theorem wk_X1_drops (l : Launch) (hst : l.stackTraces = false) {G : hG} {w : Hp} {a0 : Nat} {x1 : Int32} {K : Hp → Int32 → Prop} {X : Hp → String → Prop} (h : wp_X1_drops w a0 x1 X K) : hx_xMi l yX1_drops (ws9_X1_drops) rm_X1_drops G w [.ref a0, .int x1] K X 1 6 := by
  refine vx_ofW (cc := cX1_drops) (maxL := 2) (ret := (Option.some Jvm.ClassFile.FieldType.int)) (by decide +kernel) rfl ?_
  intro p e s m args below meth c s₁ B hml hex hv
  refine hx_in (own := RX1) (av := [.ref a0, .int x1]) (vl := [(0, va_rf (some a0)), (1, .int x1)]) rfl rfl (Nat.le_of_ble_eq_true rfl) rfl B hml hv ?_
  intro C0 hU hH hr hlocks hin ls hl
  have hx := C0.1
  have hb := C0.2.1
  have hts := C0.2.2.2.2
  have b11 : ∀ (w : Hp) , wp_X1_drops_b11 K X  w  → ∀ (H : Heap) (locs : List Loc) (ls : Array Slot), hx_H G w s H locs → lv_has ls 2 [] → W p l e (headSpec (ws9_X1_drops) rm_X1_drops).room s m args below meth c H locs (0) (0) (Q9_X1_drops below args s G K X) (F0 m 11 ls []) := by
    intro w  h H locs ls hH hl
    exact hx_throwW C0 hU hH hst (text := "code") (cls := eIA) (names := hx_names) hl.1 rfl hx_names_fit q496 q75 q1026 hat_eIA good_eIA_51 dX1_drops_11 dX1_drops_14 dX1_drops_15 dX1_drops_18 dX1_drops_21 hex hlocks h (Nat.le_of_ble_eq_true rfl) (Nat.le_of_ble_eq_true rfl) (Nat.le_of_ble_eq_true rfl) (Nat.le_of_ble_eq_true rfl) (Nat.le_of_ble_eq_true rfl) (Nat.le_of_ble_eq_true rfl)
  refine lv_iload_n hx hb dX1_drops_0 rfl (lv_at hl 1 rfl) ?_
  refine lv_bipush (v := -7) hx hb dX1_drops_1 (by decide) ?_
  refine lv_icmp_lt hx hb dX1_drops_3 (tgt := 11) (by decide) (fun c_1 => ?_) (fun c_1 => ?_)
  · have h := h.1 c_1
    refine W.widen (k := 0) (n := 0) (Nat.le_of_ble_eq_true rfl) (Nat.le_of_ble_eq_true rfl) ?_
    exact b11 _  h _ _ _ hH (lv_sub hl [] rfl)
  · have h := h.2 c_1
    refine lv_iload_n hx hb dX1_drops_6 rfl (lv_at hl 1 rfl) ?_
    refine lv_iconst (v := 3) hx hb dX1_drops_7 (by decide) ?_
    refine lv_icmp_le hx hb dX1_drops_8 (tgt := 22) (by decide) (fun c_2 => ?_) (fun c_2 => ?_)
    · have h := h.1 c_2
      refine hx_aload_n C0 dX1_drops_22 rfl (lv_at hl 0 rfl) ?_
      refine hx_gR C0 hU hH (ci := 0) rfl in_X1 9 (by decide) q272 (fun _ h9 => h9) h dX1_drops_23 (fun r_3 h => ?_)
      refine lv_iload_n hx hb dX1_drops_26 rfl (lv_at hl 1 rfl) ?_
      refine lv_bipush (v := 7) hx hb dX1_drops_27 (by decide) ?_
      refine lv_iadd hx hb dX1_drops_29 ?_
      obtain ⟨b_4, rfl, h9⟩ := h
      have h := h9
      clear h9
      refine hx_aI C0 hU hH h dX1_drops_30 (fun i_5 h => ?_)
      exact hx_xreti C0 hH hr hlocks h (Nat.le_of_ble_eq_true rfl) (Nat.le_of_ble_eq_true rfl) dX1_drops_31
    · have h := h.2 c_2
      refine W.widen (k := 0) (n := 0) (Nat.le_of_ble_eq_true rfl) (Nat.le_of_ble_eq_true rfl) ?_
      exact b11 _  h _ _ _ hH (lv_sub hl [] rfl)
def wp_X1_publicOf_b11 (K : Hp → Int32 → Prop) (X : Hp → String → Prop)  (w : Hp)  : Prop :=
  X w eIA
def wp_X1_publicOf (w : Hp) (a0 : Nat) (x1 : Int32) (X : Hp → String → Prop) (K : Hp → Int32 → Prop) : Prop :=
  br (x1 < 0) (wp_X1_publicOf_b11 K X w) (br (x1 ≤ (1000000 : Int32)) (wp_X1_power w (7 : Int32) x1 fun w i_3 => K w i_3) (wp_X1_publicOf_b11 K X w))
abbrev rm_X1_publicOf : Room := { frames := 6, cells := 1, slots := 6, locals := 82 }
abbrev ws9_X1_publicOf : List Cond := ws_ yX1_publicOf cX1_publicOf 2 (Option.some Jvm.ClassFile.FieldType.int)
abbrev Q9_X1_publicOf (below : List Frame) (args : Array Value) (s : State) (G : hG) (K : Hp → Int32 → Prop) (X : Hp → String → Prop) : State → Prop := vx_MQ below (hx_Qi G K) (hx_XC G X) args s 1 6 (hx_A G)
set_option maxHeartbeats 4000000 in
set_option maxRecDepth 100000 in
theorem wk_X1_publicOf (l : Launch) (hst : l.stackTraces = false) {G : hG} {w : Hp} {a0 : Nat} {x1 : Int32} {K : Hp → Int32 → Prop} {X : Hp → String → Prop} (h : wp_X1_publicOf w a0 x1 X K) : hx_xMi l yX1_publicOf (ws9_X1_publicOf) rm_X1_publicOf G w [.ref a0, .int x1] K X 1 6 := by
  refine vx_ofW (cc := cX1_publicOf) (maxL := 2) (ret := (Option.some Jvm.ClassFile.FieldType.int)) (by decide +kernel) rfl ?_
  intro p e s m args below meth c s₁ B hml hex hv
  refine hx_in (own := RX1) (av := [.ref a0, .int x1]) (vl := [(0, va_rf (some a0)), (1, .int x1)]) rfl rfl (Nat.le_of_ble_eq_true rfl) rfl B hml hv ?_
  intro C0 hU hH hr hlocks hin ls hl
  have hx := C0.1
  have hb := C0.2.1
  have hts := C0.2.2.2.2
  have b11 : ∀ (w : Hp) , wp_X1_publicOf_b11 K X  w  → ∀ (H : Heap) (locs : List Loc) (ls : Array Slot), hx_H G w s H locs → lv_has ls 2 [] → W p l e (headSpec (ws9_X1_publicOf) rm_X1_publicOf).room s m args below meth c H locs (0) (0) (Q9_X1_publicOf below args s G K X) (F0 m 11 ls []) := by
    intro w  h H locs ls hH hl
    exact hx_throwW C0 hU hH hst (text := "secret") (cls := eIA) (names := hx_names) hl.1 rfl hx_names_fit q496 q75 q1035 hat_eIA good_eIA_51 dX1_publicOf_11 dX1_publicOf_14 dX1_publicOf_15 dX1_publicOf_18 dX1_publicOf_21 hex hlocks h (Nat.le_of_ble_eq_true rfl) (Nat.le_of_ble_eq_true rfl) (Nat.le_of_ble_eq_true rfl) (Nat.le_of_ble_eq_true rfl) (Nat.le_of_ble_eq_true rfl) (Nat.le_of_ble_eq_true rfl)
  refine lv_iload_n hx hb dX1_publicOf_0 rfl (lv_at hl 1 rfl) ?_
  refine lv_if_lt hx hb dX1_publicOf_1 (tgt := 11) (by decide) (fun c_1 => ?_) (fun c_1 => ?_)
  · have h := h.1 c_1
    refine W.widen (k := 0) (n := 0) (Nat.le_of_ble_eq_true rfl) (Nat.le_of_ble_eq_true rfl) ?_
    exact b11 _  h _ _ _ hH (lv_sub hl [] rfl)
  · have h := h.2 c_1
    refine lv_iload_n hx hb dX1_publicOf_4 rfl (lv_at hl 1 rfl) ?_
    refine lv_ldcw (v := 1000000) hx hb C0.2.2.2.1 (hts _ q1034) dX1_publicOf_5 ?_
    refine lv_icmp_le hx hb dX1_publicOf_8 (tgt := 22) (by decide) (fun c_2 => ?_) (fun c_2 => ?_)
    · have h := h.1 c_2
      refine lv_bipush (v := 7) hx hb dX1_publicOf_22 (by decide) ?_
      refine lv_iload_n hx hb dX1_publicOf_24 rfl (lv_at hl 1 rfl) ?_
      refine hx_Si C0 hU hH (As := [.int (7 : Int32), .int x1]) (wk_X1_power l h) (va_cwS 2 hts (lw_S q694 q695 q60 q696) rfl rfl rfl (by decide +kernel) ⟨Nat.le_of_ble_eq_true rfl, Nat.le_of_ble_eq_true rfl⟩) rfl hl.1 rfl (Nat.le_of_ble_eq_true rfl) dX1_publicOf_25 ⟨Nat.le_of_ble_eq_true rfl, Nat.le_of_ble_eq_true rfl⟩ (fun i_3 w H locs hH h => ?_)
      exact hx_xreti C0 hH hr hlocks h (Nat.le_of_ble_eq_true rfl) (Nat.le_of_ble_eq_true rfl) dX1_publicOf_28
    · have h := h.2 c_2
      refine W.widen (k := 0) (n := 0) (Nat.le_of_ble_eq_true rfl) (Nat.le_of_ble_eq_true rfl) ?_
      exact b11 _  h _ _ _ hH (lv_sub hl [] rfl)
def wp_X1_shared_b23 (K : Hp → Int32 → Prop) (X : Hp → String → Prop)  (w : Hp)  : Prop :=
  X w eIA
def wp_X1_shared (w : Hp) (a0 : Nat) (x1 : Int32) (x2 : Int32) (X : Hp → String → Prop) (K : Hp → Int32 → Prop) : Prop :=
  br (x1 < 0) (wp_X1_shared_b23 K X w) (br ((1000000 : Int32) < x1) (wp_X1_shared_b23 K X w) (br (x2 < (1 : Int32)) (wp_X1_shared_b23 K X w) (br (x2 ≤ (2038 : Int32)) (wp_X1_power w x2 x1 fun w i_5 => K w i_5) (wp_X1_shared_b23 K X w))))
abbrev rm_X1_shared : Room := { frames := 6, cells := 1, slots := 6, locals := 82 }
abbrev ws9_X1_shared : List Cond := ws_ yX1_shared cX1_shared 3 (Option.some Jvm.ClassFile.FieldType.int)
abbrev Q9_X1_shared (below : List Frame) (args : Array Value) (s : State) (G : hG) (K : Hp → Int32 → Prop) (X : Hp → String → Prop) : State → Prop := vx_MQ below (hx_Qi G K) (hx_XC G X) args s 1 6 (hx_A G)
set_option maxHeartbeats 4000000 in
set_option maxRecDepth 100000 in
theorem wk_X1_shared (l : Launch) (hst : l.stackTraces = false) {G : hG} {w : Hp} {a0 : Nat} {x1 : Int32} {x2 : Int32} {K : Hp → Int32 → Prop} {X : Hp → String → Prop} (h : wp_X1_shared w a0 x1 x2 X K) : hx_xMi l yX1_shared (ws9_X1_shared) rm_X1_shared G w [.ref a0, .int x1, .int x2] K X 1 6 := by
  refine vx_ofW (cc := cX1_shared) (maxL := 3) (ret := (Option.some Jvm.ClassFile.FieldType.int)) (by decide +kernel) rfl ?_
  intro p e s m args below meth c s₁ B hml hex hv
  refine hx_in (own := RX1) (av := [.ref a0, .int x1, .int x2]) (vl := [(0, va_rf (some a0)), (1, .int x1), (2, .int x2)]) rfl rfl (Nat.le_of_ble_eq_true rfl) rfl B hml hv ?_
  intro C0 hU hH hr hlocks hin ls hl
  have hx := C0.1
  have hb := C0.2.1
  have hts := C0.2.2.2.2
  have b23 : ∀ (w : Hp) , wp_X1_shared_b23 K X  w  → ∀ (H : Heap) (locs : List Loc) (ls : Array Slot), hx_H G w s H locs → lv_has ls 3 [] → W p l e (headSpec (ws9_X1_shared) rm_X1_shared).room s m args below meth c H locs (0) (0) (Q9_X1_shared below args s G K X) (F0 m 23 ls []) := by
    intro w  h H locs ls hH hl
    exact hx_throwW C0 hU hH hst (text := "shared") (cls := eIA) (names := hx_names) hl.1 rfl hx_names_fit q496 q75 q1043 hat_eIA good_eIA_51 dX1_shared_23 dX1_shared_26 dX1_shared_27 dX1_shared_30 dX1_shared_33 hex hlocks h (Nat.le_of_ble_eq_true rfl) (Nat.le_of_ble_eq_true rfl) (Nat.le_of_ble_eq_true rfl) (Nat.le_of_ble_eq_true rfl) (Nat.le_of_ble_eq_true rfl) (Nat.le_of_ble_eq_true rfl)
  refine lv_iload_n hx hb dX1_shared_0 rfl (lv_at hl 1 rfl) ?_
  refine lv_if_lt hx hb dX1_shared_1 (tgt := 23) (by decide) (fun c_1 => ?_) (fun c_1 => ?_)
  · have h := h.1 c_1
    refine W.widen (k := 0) (n := 0) (Nat.le_of_ble_eq_true rfl) (Nat.le_of_ble_eq_true rfl) ?_
    exact b23 _  h _ _ _ hH (lv_sub hl [] rfl)
  · have h := h.2 c_1
    refine lv_iload_n hx hb dX1_shared_4 rfl (lv_at hl 1 rfl) ?_
    refine lv_ldcw (v := 1000000) hx hb C0.2.2.2.1 (hts _ q1034) dX1_shared_5 ?_
    refine lv_icmp_gt hx hb dX1_shared_8 (tgt := 23) (by decide) (fun c_2 => ?_) (fun c_2 => ?_)
    · have h := h.1 c_2
      refine W.widen (k := 0) (n := 0) (Nat.le_of_ble_eq_true rfl) (Nat.le_of_ble_eq_true rfl) ?_
      exact b23 _  h _ _ _ hH (lv_sub hl [] rfl)
    · have h := h.2 c_2
      refine lv_iload_n hx hb dX1_shared_11 rfl (lv_at hl 2 rfl) ?_
      refine lv_iconst (v := 1) hx hb dX1_shared_12 (by decide) ?_
      refine lv_icmp_lt hx hb dX1_shared_13 (tgt := 23) (by decide) (fun c_3 => ?_) (fun c_3 => ?_)
      · have h := h.1 c_3
        refine W.widen (k := 0) (n := 0) (Nat.le_of_ble_eq_true rfl) (Nat.le_of_ble_eq_true rfl) ?_
        exact b23 _  h _ _ _ hH (lv_sub hl [] rfl)
      · have h := h.2 c_3
        refine lv_iload_n hx hb dX1_shared_16 rfl (lv_at hl 2 rfl) ?_
        refine lv_sipush (v := 2038) hx hb dX1_shared_17 (by decide) ?_
        refine lv_icmp_le hx hb dX1_shared_20 (tgt := 34) (by decide) (fun c_4 => ?_) (fun c_4 => ?_)
        · have h := h.1 c_4
          refine lv_iload_n hx hb dX1_shared_34 rfl (lv_at hl 2 rfl) ?_
          refine lv_iload_n hx hb dX1_shared_35 rfl (lv_at hl 1 rfl) ?_
          refine hx_Si C0 hU hH (As := [.int x2, .int x1]) (wk_X1_power l h) (va_cwS 2 hts (lw_S q694 q695 q60 q696) rfl rfl rfl (by decide +kernel) ⟨Nat.le_of_ble_eq_true rfl, Nat.le_of_ble_eq_true rfl⟩) rfl hl.1 rfl (Nat.le_of_ble_eq_true rfl) dX1_shared_36 ⟨Nat.le_of_ble_eq_true rfl, Nat.le_of_ble_eq_true rfl⟩ (fun i_5 w H locs hH h => ?_)
          exact hx_xreti C0 hH hr hlocks h (Nat.le_of_ble_eq_true rfl) (Nat.le_of_ble_eq_true rfl) dX1_shared_39
        · have h := h.2 c_4
          refine W.widen (k := 0) (n := 0) (Nat.le_of_ble_eq_true rfl) (Nat.le_of_ble_eq_true rfl) ?_
          exact b23 _  h _ _ _ hH (lv_sub hl [] rfl)
def wp_X1_seal_b34 (K : Hp → Int32 → Prop) (X : Hp → String → Prop)  (w : Hp)  : Prop :=
  X w eIA
def wp_X1_seal (w : Hp) (a0 : Nat) (x1 : Int32) (x2 : Int32) (x3 : Int32) (x4 : Int32) (X : Hp → String → Prop) (K : Hp → Int32 → Prop) : Prop :=
  br (x1 < (1 : Int32)) (wp_X1_seal_b34 K X w) (br ((65520 : Int32) < x1) (wp_X1_seal_b34 K X w) (wp_X1_isOut w x2 fun w i_3 => br (i_3 = 0) (wp_X1_isOut w x3 fun w i_5 => br (i_5 = 0) (wp_X1_isOut w x4 fun w i_7 => br (i_7 = 0) (nI_ w (3 : Int32) 3 fun w b_9 => sI w b_9 (0 : Int32) x2 fun w => sI w b_9 (1 : Int32) x3 fun w => sI w b_9 (2 : Int32) x4 fun w => wp_X1_sealOf w x1 b_9 fun w i_10 => K w i_10) (wp_X1_seal_b34 K X w)) (wp_X1_seal_b34 K X w)) (wp_X1_seal_b34 K X w)))
abbrev rm_X1_seal : Room := { frames := 6, cells := 1, slots := 6, locals := 82 }
abbrev ws9_X1_seal : List Cond := ws_ yX1_seal cX1_seal 5 (Option.some Jvm.ClassFile.FieldType.int)
abbrev Q9_X1_seal (below : List Frame) (args : Array Value) (s : State) (G : hG) (K : Hp → Int32 → Prop) (X : Hp → String → Prop) : State → Prop := vx_MQ below (hx_Qi G K) (hx_XC G X) args s 1 6 (hx_A G)
set_option maxHeartbeats 4000000 in
set_option maxRecDepth 100000 in
theorem wk_X1_seal (l : Launch) (hst : l.stackTraces = false) {G : hG} {w : Hp} {a0 : Nat} {x1 : Int32} {x2 : Int32} {x3 : Int32} {x4 : Int32} {K : Hp → Int32 → Prop} {X : Hp → String → Prop} (h : wp_X1_seal w a0 x1 x2 x3 x4 X K) : hx_xMi l yX1_seal (ws9_X1_seal) rm_X1_seal G w [.ref a0, .int x1, .int x2, .int x3, .int x4] K X 1 6 := by
  refine vx_ofW (cc := cX1_seal) (maxL := 5) (ret := (Option.some Jvm.ClassFile.FieldType.int)) (by decide +kernel) rfl ?_
  intro p e s m args below meth c s₁ B hml hex hv
  refine hx_in (own := RX1) (av := [.ref a0, .int x1, .int x2, .int x3, .int x4]) (vl := [(0, va_rf (some a0)), (1, .int x1), (2, .int x2), (3, .int x3), (4, .int x4)]) rfl rfl (Nat.le_of_ble_eq_true rfl) rfl B hml hv ?_
  intro C0 hU hH hr hlocks hin ls hl
  have hx := C0.1
  have hb := C0.2.1
  have hts := C0.2.2.2.2
  have b34 : ∀ (w : Hp) , wp_X1_seal_b34 K X  w  → ∀ (H : Heap) (locs : List Loc) (ls : Array Slot), hx_H G w s H locs → lv_has ls 5 [] → W p l e (headSpec (ws9_X1_seal) rm_X1_seal).room s m args below meth c H locs (0) (0) (Q9_X1_seal below args s G K X) (F0 m 34 ls []) := by
    intro w  h H locs ls hH hl
    exact hx_throwW C0 hU hH hst (text := "seal") (cls := eIA) (names := hx_names) hl.1 rfl hx_names_fit q496 q75 q1055 hat_eIA good_eIA_51 dX1_seal_34 dX1_seal_37 dX1_seal_38 dX1_seal_41 dX1_seal_44 hex hlocks h (Nat.le_of_ble_eq_true rfl) (Nat.le_of_ble_eq_true rfl) (Nat.le_of_ble_eq_true rfl) (Nat.le_of_ble_eq_true rfl) (Nat.le_of_ble_eq_true rfl) (Nat.le_of_ble_eq_true rfl)
  refine lv_iload_n hx hb dX1_seal_0 rfl (lv_at hl 1 rfl) ?_
  refine lv_iconst (v := 1) hx hb dX1_seal_1 (by decide) ?_
  refine lv_icmp_lt hx hb dX1_seal_2 (tgt := 34) (by decide) (fun c_1 => ?_) (fun c_1 => ?_)
  · have h := h.1 c_1
    refine W.widen (k := 0) (n := 0) (Nat.le_of_ble_eq_true rfl) (Nat.le_of_ble_eq_true rfl) ?_
    exact b34 _  h _ _ _ hH (lv_sub hl [] rfl)
  · have h := h.2 c_1
    refine lv_iload_n hx hb dX1_seal_5 rfl (lv_at hl 1 rfl) ?_
    refine lv_ldcw (v := 65520) hx hb C0.2.2.2.1 (hts _ q1051) dX1_seal_6 ?_
    refine lv_icmp_gt hx hb dX1_seal_9 (tgt := 34) (by decide) (fun c_2 => ?_) (fun c_2 => ?_)
    · have h := h.1 c_2
      refine W.widen (k := 0) (n := 0) (Nat.le_of_ble_eq_true rfl) (Nat.le_of_ble_eq_true rfl) ?_
      exact b34 _  h _ _ _ hH (lv_sub hl [] rfl)
    · have h := h.2 c_2
      refine lv_iload_n hx hb dX1_seal_12 rfl (lv_at hl 2 rfl) ?_
      refine hx_Si C0 hU hH (As := [.int x2]) (wk_X1_isOut l h) (va_cwS 1 hts (lw_S q1052 q1053 q60 q1054) rfl rfl rfl (by decide +kernel) ⟨Nat.le_of_ble_eq_true rfl, Nat.le_of_ble_eq_true rfl⟩) rfl hl.1 rfl (Nat.le_of_ble_eq_true rfl) dX1_seal_13 ⟨Nat.le_of_ble_eq_true rfl, Nat.le_of_ble_eq_true rfl⟩ (fun i_3 w H locs hH h => ?_)
      refine lv_if_ne hx hb dX1_seal_16 (tgt := 34) (by decide) (fun c_4 => ?_) (fun c_4 => ?_)
      · have h := h.2 c_4
        refine W.widen (k := 0) (n := 0) (Nat.le_of_ble_eq_true rfl) (Nat.le_of_ble_eq_true rfl) ?_
        exact b34 _  h _ _ _ hH (lv_sub hl [] rfl)
      · have h := h.1 c_4
        refine lv_iload_n hx hb dX1_seal_19 rfl (lv_at hl 3 rfl) ?_
        refine hx_Si C0 hU hH (As := [.int x3]) (wk_X1_isOut l h) (va_cwS 1 hts (lw_S q1052 q1053 q60 q1054) rfl rfl rfl (by decide +kernel) ⟨Nat.le_of_ble_eq_true rfl, Nat.le_of_ble_eq_true rfl⟩) rfl hl.1 rfl (Nat.le_of_ble_eq_true rfl) dX1_seal_20 ⟨Nat.le_of_ble_eq_true rfl, Nat.le_of_ble_eq_true rfl⟩ (fun i_5 w H locs hH h => ?_)
        refine lv_if_ne hx hb dX1_seal_23 (tgt := 34) (by decide) (fun c_6 => ?_) (fun c_6 => ?_)
        · have h := h.2 c_6
          refine W.widen (k := 0) (n := 0) (Nat.le_of_ble_eq_true rfl) (Nat.le_of_ble_eq_true rfl) ?_
          exact b34 _  h _ _ _ hH (lv_sub hl [] rfl)
        · have h := h.1 c_6
          refine lv_iload hx hb dX1_seal_26 (lv_at hl 4 rfl) ?_
          refine hx_Si C0 hU hH (As := [.int x4]) (wk_X1_isOut l h) (va_cwS 1 hts (lw_S q1052 q1053 q60 q1054) rfl rfl rfl (by decide +kernel) ⟨Nat.le_of_ble_eq_true rfl, Nat.le_of_ble_eq_true rfl⟩) rfl hl.1 rfl (Nat.le_of_ble_eq_true rfl) dX1_seal_28 ⟨Nat.le_of_ble_eq_true rfl, Nat.le_of_ble_eq_true rfl⟩ (fun i_7 w H locs hH h => ?_)
          refine lv_if_eq hx hb dX1_seal_31 (tgt := 45) (by decide) (fun c_8 => ?_) (fun c_8 => ?_)
          · have h := h.1 c_8
            refine lv_iload_n hx hb dX1_seal_45 rfl (lv_at hl 1 rfl) ?_
            refine lv_iconst (v := 3) hx hb dX1_seal_46 (by decide) ?_
            refine hx_nI C0 hU hH (Nat.le_of_ble_eq_true rfl) (Nat.le_of_ble_eq_true rfl) (Nat.le_of_ble_eq_true rfl) h dX1_seal_47 (fun b_9 w H locs hH h => ?_)
            refine lv_dup hx hb dX1_seal_49 rfl ?_
            refine lv_iconst (v := 0) hx hb dX1_seal_50 (by decide) ?_
            refine lv_iload_n hx hb dX1_seal_51 rfl (lv_at hl 2 rfl) ?_
            refine hx_sI C0 hU hH h dX1_seal_52 (fun w H locs hH h => ?_)
            refine lv_dup hx hb dX1_seal_53 rfl ?_
            refine lv_iconst (v := 1) hx hb dX1_seal_54 (by decide) ?_
            refine lv_iload_n hx hb dX1_seal_55 rfl (lv_at hl 3 rfl) ?_
            refine hx_sI C0 hU hH h dX1_seal_56 (fun w H locs hH h => ?_)
            refine lv_dup hx hb dX1_seal_57 rfl ?_
            refine lv_iconst (v := 2) hx hb dX1_seal_58 (by decide) ?_
            refine lv_iload hx hb dX1_seal_59 (lv_at hl 4 rfl) ?_
            refine hx_sI C0 hU hH h dX1_seal_61 (fun w H locs hH h => ?_)
            refine hx_Si C0 hU hH (As := [.int x1, va_rf (some b_9)]) (wk_X1_sealOf l h) (va_cwS 2 hts (lw_S q643 q455 q60 q456) rfl rfl rfl (by decide +kernel) ⟨Nat.le_of_ble_eq_true rfl, Nat.le_of_ble_eq_true rfl⟩) rfl hl.1 rfl (Nat.le_of_ble_eq_true rfl) dX1_seal_62 ⟨Nat.le_of_ble_eq_true rfl, Nat.le_of_ble_eq_true rfl⟩ (fun i_10 w H locs hH h => ?_)
            exact hx_xreti C0 hH hr hlocks h (Nat.le_of_ble_eq_true rfl) (Nat.le_of_ble_eq_true rfl) dX1_seal_65
          · have h := h.2 c_8
            refine W.widen (k := 0) (n := 0) (Nat.le_of_ble_eq_true rfl) (Nat.le_of_ble_eq_true rfl) ?_
            exact b34 _  h _ _ _ hH (lv_sub hl [] rfl)
