/-! Burrowline.isSound (printed by gen/gen.py: weakest preconditions and walks) -/
set_option maxRecDepth 100000
def wp_X1_isSound_b276 (K : Hp → Int32 → Prop) (bk241 : Hp → Option Nat → Prop) (w : Hp) (a2 : Nat) : Prop :=
  bk241 w (some a2)
def wp_X1_isSound_s241 (K : Hp → Int32 → Prop)  (bk241 : Hp → Option Nat → Prop) (w : Hp) (r2 : Option Nat) : Prop :=
  dR r2 fun b_1 => isO w b_1 8 <| wp_J17_hasNext w b_1 fun w i_2 => br (i_2 = 0) (K w (1 : Int32)) (isO w b_1 8 <| wp_J17_next w b_1 fun w r_4 => ckO w r_4 4 <| dR r_4 fun b_5 => isO w b_5 4 <| wp_X5_isTurned w b_5 fun w i_6 => br (i_6 = 0) (wp_X1_isSound_b276 K bk241 w b_1) (isO w b_5 4 <| wp_X5_isRight w b_5 fun w i_8 => br (i_8 = 0) (wp_X1_isSound_b276 K bk241 w b_1) (K w (0 : Int32))))
def wp_X1_isSound_l241 (K : Hp → Int32 → Prop)  : ((Hp × Option Nat) → Prop) → (Hp × Option Nat) → Prop := fun bk q => wp_X1_isSound_s241 K  (fun w r2 => bk (w, r2)) q.1 q.2
def wp_X1_isSound_b241 (K : Hp → Int32 → Prop)  (w : Hp) (r2 : Option Nat) : Prop := lpN (wp_X1_isSound_l241 K ) 62 (w, r2)
def wp_X1_isSound_b227 (K : Hp → Int32 → Prop) (bk86 : Hp → Nat → Nat → Option Nat → Prop) (bk120 : Hp → Nat → Nat → Nat → Nat → Option Nat → Prop) (w : Hp) (a0 : Nat) (a1 : Nat) (a2 : Nat) (a3 : Nat) (a4 : Nat) : Prop :=
  bk120 w a0 a1 a2 a3 (some a4)
def wp_X1_isSound_s120 (K : Hp → Int32 → Prop) (bk86 : Hp → Nat → Nat → Option Nat → Prop) (bk120 : Hp → Nat → Nat → Nat → Nat → Option Nat → Prop) (w : Hp) (a0 : Nat) (a1 : Nat) (a2 : Nat) (a3 : Nat) (r4 : Option Nat) : Prop :=
  dR r4 fun b_1 => isO w b_1 8 <| wp_J17_hasNext w b_1 fun w i_2 => br (i_2 = 0) (bk86 w a0 a1 (some a2)) (isO w b_1 8 <| wp_J17_next w b_1 fun w r_4 => ckO w r_4 6 <| br ((r_4 : Option Nat) = (some a3)) (bk120 w a0 a1 a2 a3 (some b_1)) (dR r_4 fun b_6 => gI w b_6 6 0 fun i_7 => gI w a3 6 0 fun i_8 => br (i_7 = i_8) (K w (0 : Int32)) (gI w a3 6 1 fun i_10 => gI w b_6 6 0 fun i_11 => br (i_10 = i_11) (gI w b_6 6 1 fun i_13 => gI w a3 6 0 fun i_14 => br (i_13 = i_14) (gI w a3 6 3 fun i_16 => gI w b_6 6 4 fun i_17 => br (i_16 = i_17) (gI w a3 6 4 fun i_19 => gI w b_6 6 3 fun i_20 => br (i_19 = i_20) (gI w a3 6 5 fun i_22 => gI w b_6 6 5 fun i_23 => br (i_22 = i_23) (K w (0 : Int32)) (wp_X1_isSound_b227 K bk86 bk120 w a0 a1 a2 a3 b_1)) (K w (0 : Int32))) (K w (0 : Int32))) (wp_X1_isSound_b227 K bk86 bk120 w a0 a1 a2 a3 b_1)) (wp_X1_isSound_b227 K bk86 bk120 w a0 a1 a2 a3 b_1))))
def wp_X1_isSound_l120 (K : Hp → Int32 → Prop) (bk86 : Hp → Nat → Nat → Option Nat → Prop) : ((Hp × Nat × Nat × Nat × Nat × Option Nat) → Prop) → (Hp × Nat × Nat × Nat × Nat × Option Nat) → Prop := fun bk q => wp_X1_isSound_s120 K bk86 (fun w a0 a1 a2 a3 r4 => bk (w, a0, a1, a2, a3, r4)) q.1 q.2.1 q.2.2.1 q.2.2.2.1 q.2.2.2.2.1 q.2.2.2.2.2
def wp_X1_isSound_b120 (K : Hp → Int32 → Prop) (bk86 : Hp → Nat → Nat → Option Nat → Prop) (w : Hp) (a0 : Nat) (a1 : Nat) (a2 : Nat) (a3 : Nat) (r4 : Option Nat) : Prop := lp (wp_X1_isSound_l120 K bk86) (w, a0, a1, a2, a3, r4)
def wp_X1_isSound_s86 (K : Hp → Int32 → Prop)  (bk86 : Hp → Nat → Nat → Option Nat → Prop) (w : Hp) (a0 : Nat) (a1 : Nat) (r2 : Option Nat) : Prop :=
  dR r2 fun b_1 => isO w b_1 8 <| wp_J17_hasNext w b_1 fun w i_2 => br (i_2 = 0) (gR w a0 0 7 fun r_4 => dR r_4 fun b_5 => isO w b_5 7 <| wp_J2_iterator w b_5 fun w r_6 => wp_X1_isSound_b241 K w r_6) (isO w b_1 8 <| wp_J17_next w b_1 fun w r_7 => ckO w r_7 6 <| dR r_7 fun b_8 => isO w b_8 6 <| wp_X7_isSound w b_8 fun w i_9 => br (i_9 = 0) (K w (0 : Int32)) (isO w a1 7 <| wp_J2_iterator w a1 fun w r_11 => wp_X1_isSound_b120 K bk86 w a0 a1 b_1 b_8 r_11))
def wp_X1_isSound_l86 (K : Hp → Int32 → Prop)  : ((Hp × Nat × Nat × Option Nat) → Prop) → (Hp × Nat × Nat × Option Nat) → Prop := fun bk q => wp_X1_isSound_s86 K  (fun w a0 a1 r2 => bk (w, a0, a1, r2)) q.1 q.2.1 q.2.2.1 q.2.2.2
def wp_X1_isSound_b86 (K : Hp → Int32 → Prop)  (w : Hp) (a0 : Nat) (a1 : Nat) (r2 : Option Nat) : Prop := lpN (wp_X1_isSound_l86 K ) 20 (w, a0, a1, r2)
def wp_X1_isSound_b69 (K : Hp → Int32 → Prop) (bk10 : Hp → Nat → Nat → Int32 → Prop) (bk17 : Hp → Nat → Nat → Int32 → Int32 → Prop) (w : Hp) (a0 : Nat) (a1 : Nat) (x2 : Int32) (x3 : Int32) : Prop :=
  nm (x3 + 1) fun i_1 => bk17 w a0 a1 x2 i_1
def wp_X1_isSound_b63 (K : Hp → Int32 → Prop) (bk10 : Hp → Nat → Nat → Int32 → Prop) (bk17 : Hp → Nat → Nat → Int32 → Int32 → Prop) (bk25 : Hp → Nat → Nat → Int32 → Int32 → Int32 → Prop) (w : Hp) (a0 : Nat) (a1 : Nat) (x2 : Int32) (x3 : Int32) (x4 : Int32) : Prop :=
  nm (x4 + 1) fun i_1 => bk25 w a0 a1 x2 x3 i_1
def wp_X1_isSound_s25 (K : Hp → Int32 → Prop) (bk10 : Hp → Nat → Nat → Int32 → Prop) (bk17 : Hp → Nat → Nat → Int32 → Int32 → Prop) (bk25 : Hp → Nat → Nat → Int32 → Int32 → Int32 → Prop) (w : Hp) (a0 : Nat) (a1 : Nat) (x2 : Int32) (x3 : Int32) (x4 : Int32) : Prop :=
  br (x3 = x2) (wp_X1_isSound_b69 K bk10 bk17 w a0 a1 x2 x3) (br ((3 : Int32) ≤ x4) (wp_X1_isSound_b69 K bk10 bk17 w a0 a1 x2 x3) (gR w a0 0 6 fun r_3 => dR r_3 fun b_4 => aR w b_4 x2 fun r_5 => dR r_5 fun b_6 => aR w b_6 x3 fun r_7 => dR r_7 fun b_8 => isO w b_8 2 <| wp_X3_session w b_8 x4 fun w r_9 => br (r_9 = none) (wp_X1_isSound_b63 K bk10 bk17 bk25 w a0 a1 x2 x3 x4) (dR r_9 fun b_11 => isO w a1 7 <| wp_J2_add w a1 b_11 fun w i_12 => wp_X1_isSound_b63 K bk10 bk17 bk25 w a0 a1 x2 x3 x4)))
def wp_X1_isSound_l25 (K : Hp → Int32 → Prop) (bk10 : Hp → Nat → Nat → Int32 → Prop) (bk17 : Hp → Nat → Nat → Int32 → Int32 → Prop) : ((Hp × Nat × Nat × Int32 × Int32 × Int32) → Prop) → (Hp × Nat × Nat × Int32 × Int32 × Int32) → Prop := fun bk q => wp_X1_isSound_s25 K bk10 bk17 (fun w a0 a1 x2 x3 x4 => bk (w, a0, a1, x2, x3, x4)) q.1 q.2.1 q.2.2.1 q.2.2.2.1 q.2.2.2.2.1 q.2.2.2.2.2
def wp_X1_isSound_b25 (K : Hp → Int32 → Prop) (bk10 : Hp → Nat → Nat → Int32 → Prop) (bk17 : Hp → Nat → Nat → Int32 → Int32 → Prop) (w : Hp) (a0 : Nat) (a1 : Nat) (x2 : Int32) (x3 : Int32) (x4 : Int32) : Prop := lpN (wp_X1_isSound_l25 K bk10 bk17) 4 (w, a0, a1, x2, x3, x4)
def wp_X1_isSound_s17 (K : Hp → Int32 → Prop) (bk10 : Hp → Nat → Nat → Int32 → Prop) (bk17 : Hp → Nat → Nat → Int32 → Int32 → Prop) (w : Hp) (a0 : Nat) (a1 : Nat) (x2 : Int32) (x3 : Int32) : Prop :=
  br ((3 : Int32) ≤ x3) (nm (x2 + 1) fun i_2 => bk10 w a0 a1 i_2) (wp_X1_isSound_b25 K bk10 bk17 w a0 a1 x2 x3 (0 : Int32))
def wp_X1_isSound_l17 (K : Hp → Int32 → Prop) (bk10 : Hp → Nat → Nat → Int32 → Prop) : ((Hp × Nat × Nat × Int32 × Int32) → Prop) → (Hp × Nat × Nat × Int32 × Int32) → Prop := fun bk q => wp_X1_isSound_s17 K bk10 (fun w a0 a1 x2 x3 => bk (w, a0, a1, x2, x3)) q.1 q.2.1 q.2.2.1 q.2.2.2.1 q.2.2.2.2
def wp_X1_isSound_b17 (K : Hp → Int32 → Prop) (bk10 : Hp → Nat → Nat → Int32 → Prop) (w : Hp) (a0 : Nat) (a1 : Nat) (x2 : Int32) (x3 : Int32) : Prop := lpN (wp_X1_isSound_l17 K bk10) 4 (w, a0, a1, x2, x3)
def wp_X1_isSound_s10 (K : Hp → Int32 → Prop)  (bk10 : Hp → Nat → Nat → Int32 → Prop) (w : Hp) (a0 : Nat) (a1 : Nat) (x2 : Int32) : Prop :=
  br ((3 : Int32) ≤ x2) (isO w a1 7 <| wp_J2_iterator w a1 fun w r_2 => wp_X1_isSound_b86 K w a0 a1 r_2) (wp_X1_isSound_b17 K bk10 w a0 a1 x2 (0 : Int32))
def wp_X1_isSound_l10 (K : Hp → Int32 → Prop)  : ((Hp × Nat × Nat × Int32) → Prop) → (Hp × Nat × Nat × Int32) → Prop := fun bk q => wp_X1_isSound_s10 K  (fun w a0 a1 x2 => bk (w, a0, a1, x2)) q.1 q.2.1 q.2.2.1 q.2.2.2
def wp_X1_isSound_b10 (K : Hp → Int32 → Prop)  (w : Hp) (a0 : Nat) (a1 : Nat) (x2 : Int32) : Prop := lpN (wp_X1_isSound_l10 K ) 4 (w, a0, a1, x2)
def wp_X1_isSound (w : Hp) (a0 : Nat) (K : Hp → Int32 → Prop) : Prop :=
  nO w 7 fsJ2 fun w b_1 => wp_J2_init w b_1 fun w => wp_X1_isSound_b10 K w a0 b_1 (0 : Int32)
abbrev rm_X1_isSound : Room := { frames := 8, cells := 150, slots := 16853, locals := 268 }
abbrev ws9_X1_isSound : List Cond := ws_ yX1_isSound cX1_isSound 6 (Option.some Jvm.ClassFile.FieldType.boolean)
abbrev Q9_X1_isSound (below : List Frame) (args : Array Value) (s : State) (G : hG) (K : Hp → Int32 → Prop) : State → Prop := MQ below (hx_Qi G K) args s 150 16853 (hx_A G)
set_option maxHeartbeats 4000000 in
set_option maxRecDepth 100000 in
theorem wk_X1_isSound (l : Launch) {G : hG} {w : Hp} {a0 : Nat} {K : Hp → Int32 → Prop} (h : wp_X1_isSound w a0 K) : hx_Mi l yX1_isSound (ws9_X1_isSound) rm_X1_isSound G w [.ref a0] K 150 16853 := by
  refine Met.ofW (cc := cX1_isSound) (maxL := 6) (ret := (Option.some Jvm.ClassFile.FieldType.boolean)) (by decide +kernel) rfl ?_
  intro p e s m args below meth c s₁ B hml hv
  refine hx_in (own := RX1) (av := [.ref a0]) (vl := [(0, va_rf (some a0))]) rfl rfl (Nat.le_of_ble_eq_true rfl) rfl B hml hv ?_
  intro C0 hU hH hr hlocks hin ls hl
  have hx := C0.1
  have hb := C0.2.1
  have hts := C0.2.2.2.2
  have L241 : ∀ (n241 cl241 sl241 : Nat), cl241 + n241 * 1 ≤ 149 → sl241 + n241 * 6 ≤ 16847 → ∀ (w : Hp) (r2 : Option Nat), lpN (wp_X1_isSound_l241 K ) n241 (w, r2) → ∀ (H : Heap) (locs : List Loc) (ls : Array Slot), hx_H G w s H locs → lv_has ls 6 [(2, va_rf r2)] → W p l e (headSpec (ws9_X1_isSound) rm_X1_isSound).room s m args below meth c H locs (cl241 + 0) (sl241 + 0) (Q9_X1_isSound below args s G K) (F0 m 241 ls []) := by
    intro n241
    induction n241 with
    | zero => intro cl241 sl241 _ _ w r2 h; exact h.elim
    | succ n241 ih241 =>
      intro cl241 sl241 hcl241 hsl241 w r2 h H locs ls hH hl
      have h : wp_X1_isSound_s241 K  (fun w r2 => lpN (wp_X1_isSound_l241 K ) n241 (w, r2)) w r2 := h
      have b276 : ∀ (w : Hp) (a2 : Nat), wp_X1_isSound_b276 K (fun w r2 => lpN (wp_X1_isSound_l241 K ) n241 (w, r2)) w a2 → ∀ (H : Heap) (locs : List Loc) (ls : Array Slot), hx_H G w s H locs → lv_has ls 6 [(2, va_rf (some a2))] → W p l e (headSpec (ws9_X1_isSound) rm_X1_isSound).room s m args below meth c H locs (cl241 + 1) (sl241 + 6) (Q9_X1_isSound below args s G K) (F0 m 276 ls []) := by
        intro w a2 h H locs ls hH hl
        refine lv_goto hx hb dX1_isSound_276 (tgt := 241) (by decide) ?_
        refine W.widen (k := cl241 + 1) (n := sl241 + 6) (by omega) (by omega) ?_
        exact ih241 _ _ (by omega) (by omega) _ _ h _ _ _ hH (lv_sub hl [0] rfl)
      refine hx_aload_n C0 dX1_isSound_241 rfl (lv_at hl 0 rfl) ?_
      obtain ⟨b_1, rfl, h9⟩ := h
      have h := h9
      clear h9
      obtain ⟨ho, h⟩ := h
      refine hx_Fi C0 hU hH (As := []) (wk_J17_hasNext l h) (hU.1.1 8 _ rfl).2 (va_cwF 0 hts (lw_F q350 q354 q356 q86 q358) rfl rfl rfl hU.2.2.2.2.1.1 (by decide +kernel) ⟨Nat.le_of_ble_eq_true rfl, Nat.le_of_ble_eq_true rfl⟩) (hx_recv hU hH (ci := 8) rfl ho) rfl hl.1 rfl (Nat.le_of_ble_eq_true rfl) dX1_isSound_242 ⟨(show _ ≤ 150 by omega), (show _ ≤ 16853 by omega)⟩ (fun i_2 w H locs hH h => ?_)
      refine lv_if_eq hx hb dX1_isSound_247 (tgt := 279) (by decide) (fun c_3 => ?_) (fun c_3 => ?_)
      · have h := h.1 c_3
        refine lv_iconst (v := 1) hx hb dX1_isSound_279 (by decide) ?_
        exact hx_retz C0 hH hr hlocks (Or.inr rfl) h (by omega) (by omega) dX1_isSound_280
      · have h := h.2 c_3
        refine hx_aload_n C0 dX1_isSound_250 rfl (lv_at hl 0 rfl) ?_
        obtain ⟨ho, h⟩ := h
        refine hx_Fq C0 hU hH (As := []) (wk_J17_next l h) (hU.1.1 8 _ rfl).2 (va_cwF 0 hts (lw_F q360 q363 q365 q86 q367) rfl rfl rfl hU.2.2.2.2.1.2 (by decide +kernel) ⟨Nat.le_of_ble_eq_true rfl, Nat.le_of_ble_eq_true rfl⟩) (hx_recv hU hH (ci := 8) rfl ho) rfl hl.1 rfl (Nat.le_of_ble_eq_true rfl) dX1_isSound_251 ⟨(show _ ≤ 150 by omega), (show _ ≤ 16853 by omega)⟩ (fun r_4 w H locs hH h => ?_)
        refine hx_ckO C0 hU hH (ci := 4) rfl q444 h dX1_isSound_256 (fun h => ?_)
        refine hx_astore_n C0 dX1_isSound_259 rfl hl (by decide) (lv' := [(3, va_rf r_4), (2, va_rf (some b_1))]) rfl (fun ls hl => ?_)
        refine hx_aload_n C0 dX1_isSound_260 rfl (lv_at hl 0 rfl) ?_
        obtain ⟨b_5, rfl, h9⟩ := h
        have h := h9
        clear h9
        obtain ⟨ho, h⟩ := h
        refine hx_VNi C0 hU hH (As := []) (wk_X5_isTurned l h) ⟨va_cnB 0 hts (lw_meth q449) rfl rfl rfl (hU.2.2.1 _ q445 rfl) (hts _ q81) (by decide +kernel) ⟨Nat.le_of_ble_eq_true rfl, Nat.le_of_ble_eq_true rfl⟩, hts _ q447, hts _ qs7⟩ (hx_recv hU hH (ci := 4) rfl ho) rfl hl.1 rfl (Nat.le_of_ble_eq_true rfl) dX1_isSound_261 ⟨(show _ ≤ 150 by omega), (show _ ≤ 16853 by omega)⟩ (fun i_6 w H locs hH h => ?_)
        refine lv_if_eq hx hb dX1_isSound_264 (tgt := 276) (by decide) (fun c_7 => ?_) (fun c_7 => ?_)
        · have h := h.1 c_7
          refine W.widen (k := cl241 + 1) (n := sl241 + 6) (by omega) (by omega) ?_
          exact b276 _ _ h _ _ _ hH (lv_sub hl [1] rfl)
        · have h := h.2 c_7
          refine hx_aload_n C0 dX1_isSound_267 rfl (lv_at hl 0 rfl) ?_
          obtain ⟨ho, h⟩ := h
          refine hx_VNi C0 hU hH (As := []) (wk_X5_isRight l h) ⟨va_cnB 0 hts (lw_meth q453) rfl rfl rfl (hU.2.2.1 _ q450 rfl) (hts _ q81) (by decide +kernel) ⟨Nat.le_of_ble_eq_true rfl, Nat.le_of_ble_eq_true rfl⟩, hts _ q452, hts _ qs8⟩ (hx_recv hU hH (ci := 4) rfl ho) rfl hl.1 rfl (Nat.le_of_ble_eq_true rfl) dX1_isSound_268 ⟨(show _ ≤ 150 by omega), (show _ ≤ 16853 by omega)⟩ (fun i_8 w H locs hH h => ?_)
          refine lv_if_eq hx hb dX1_isSound_271 (tgt := 276) (by decide) (fun c_9 => ?_) (fun c_9 => ?_)
          · have h := h.1 c_9
            refine W.widen (k := cl241 + 1) (n := sl241 + 6) (by omega) (by omega) ?_
            exact b276 _ _ h _ _ _ hH (lv_sub hl [1] rfl)
          · have h := h.2 c_9
            refine lv_iconst (v := 0) hx hb dX1_isSound_274 (by decide) ?_
            exact hx_retz C0 hH hr hlocks (Or.inl rfl) h (by omega) (by omega) dX1_isSound_275
  have L86 : ∀ (n86 cl86 sl86 : Nat), cl86 + n86 * 1 ≤ 86 → sl86 + n86 * 4 ≤ 16471 → ∀ (w : Hp) (a0 : Nat) (a1 : Nat) (r2 : Option Nat), lpN (wp_X1_isSound_l86 K ) n86 (w, a0, a1, r2) → ∀ (H : Heap) (locs : List Loc) (ls : Array Slot), hx_H G w s H locs → lv_has ls 6 [(0, va_rf (some a0)), (1, va_rf (some a1)), (2, va_rf r2)] → W p l e (headSpec (ws9_X1_isSound) rm_X1_isSound).room s m args below meth c H locs (cl86 + 0) (sl86 + 0) (Q9_X1_isSound below args s G K) (F0 m 86 ls []) := by
    intro n86
    induction n86 with
    | zero => intro cl86 sl86 _ _ w a0 a1 r2 h; exact h.elim
    | succ n86 ih86 =>
      intro cl86 sl86 hcl86 hsl86 w a0 a1 r2 h H locs ls hH hl
      have h : wp_X1_isSound_s86 K  (fun w a0 a1 r2 => lpN (wp_X1_isSound_l86 K ) n86 (w, a0, a1, r2)) w a0 a1 r2 := h
      have L120 : ∀ (n120 : Nat) (w : Hp) (a0 : Nat) (a1 : Nat) (a2 : Nat) (a3 : Nat) (r4 : Option Nat), lpN (wp_X1_isSound_l120 K (fun w a0 a1 r2 => lpN (wp_X1_isSound_l86 K ) n86 (w, a0, a1, r2))) n120 (w, a0, a1, a2, a3, r4) → ∀ (H : Heap) (locs : List Loc) (ls : Array Slot), hx_H G w s H locs → lv_has ls 6 [(0, va_rf (some a0)), (1, va_rf (some a1)), (2, va_rf (some a2)), (3, va_rf (some a3)), (4, va_rf r4)] → W p l e (headSpec (ws9_X1_isSound) rm_X1_isSound).room s m args below meth c H locs (cl86 + 1) (sl86 + 4) (Q9_X1_isSound below args s G K) (F0 m 120 ls []) := by
        intro n120
        induction n120 with
        | zero => intro w a0 a1 a2 a3 r4 h; exact h.elim
        | succ n120 ih120 =>
          intro w a0 a1 a2 a3 r4 h H locs ls hH hl
          have h : wp_X1_isSound_s120 K (fun w a0 a1 r2 => lpN (wp_X1_isSound_l86 K ) n86 (w, a0, a1, r2)) (fun w a0 a1 a2 a3 r4 => lpN (wp_X1_isSound_l120 K (fun w a0 a1 r2 => lpN (wp_X1_isSound_l86 K ) n86 (w, a0, a1, r2))) n120 (w, a0, a1, a2, a3, r4)) w a0 a1 a2 a3 r4 := h
          have b227 : ∀ (w : Hp) (a0 : Nat) (a1 : Nat) (a2 : Nat) (a3 : Nat) (a4 : Nat), wp_X1_isSound_b227 K (fun w a0 a1 r2 => lpN (wp_X1_isSound_l86 K ) n86 (w, a0, a1, r2)) (fun w a0 a1 a2 a3 r4 => lpN (wp_X1_isSound_l120 K (fun w a0 a1 r2 => lpN (wp_X1_isSound_l86 K ) n86 (w, a0, a1, r2))) n120 (w, a0, a1, a2, a3, r4)) w a0 a1 a2 a3 a4 → ∀ (H : Heap) (locs : List Loc) (ls : Array Slot), hx_H G w s H locs → lv_has ls 6 [(0, va_rf (some a0)), (1, va_rf (some a1)), (2, va_rf (some a2)), (3, va_rf (some a3)), (4, va_rf (some a4))] → W p l e (headSpec (ws9_X1_isSound) rm_X1_isSound).room s m args below meth c H locs (cl86 + 1) (sl86 + 4) (Q9_X1_isSound below args s G K) (F0 m 227 ls []) := by
            intro w a0 a1 a2 a3 a4 h H locs ls hH hl
            refine lv_goto hx hb dX1_isSound_227 (tgt := 120) (by decide) ?_
            refine W.widen (k := cl86 + 1) (n := sl86 + 4) (by omega) (by omega) ?_
            exact ih120 _ _ _ _ _ _ h _ _ _ hH (lv_sub hl [0, 1, 2, 3, 4] rfl)
          refine hx_aload C0 dX1_isSound_120 (lv_at hl 4 rfl) ?_
          obtain ⟨b_1, rfl, h9⟩ := h
          have h := h9
          clear h9
          obtain ⟨ho, h⟩ := h
          refine hx_Fi C0 hU hH (As := []) (wk_J17_hasNext l h) (hU.1.1 8 _ rfl).2 (va_cwF 0 hts (lw_F q350 q354 q356 q86 q358) rfl rfl rfl hU.2.2.2.2.1.1 (by decide +kernel) ⟨Nat.le_of_ble_eq_true rfl, Nat.le_of_ble_eq_true rfl⟩) (hx_recv hU hH (ci := 8) rfl ho) rfl hl.1 rfl (Nat.le_of_ble_eq_true rfl) dX1_isSound_122 ⟨(show _ ≤ 150 by omega), (show _ ≤ 16853 by omega)⟩ (fun i_2 w H locs hH h => ?_)
          refine lv_if_eq hx hb dX1_isSound_127 (tgt := 230) (by decide) (fun c_3 => ?_) (fun c_3 => ?_)
          · have h := h.1 c_3
            refine lv_goto hx hb dX1_isSound_230 (tgt := 86) (by decide) ?_
            refine W.widen (k := cl86 + 1) (n := sl86 + 4) (by omega) (by omega) ?_
            exact ih86 _ _ (by omega) (by omega) _ _ _ _ h _ _ _ hH (lv_sub hl [0, 1, 2] rfl)
          · have h := h.2 c_3
            refine hx_aload C0 dX1_isSound_130 (lv_at hl 4 rfl) ?_
            obtain ⟨ho, h⟩ := h
            refine hx_Fq C0 hU hH (As := []) (wk_J17_next l h) (hU.1.1 8 _ rfl).2 (va_cwF 0 hts (lw_F q360 q363 q365 q86 q367) rfl rfl rfl hU.2.2.2.2.1.2 (by decide +kernel) ⟨Nat.le_of_ble_eq_true rfl, Nat.le_of_ble_eq_true rfl⟩) (hx_recv hU hH (ci := 8) rfl ho) rfl hl.1 rfl (Nat.le_of_ble_eq_true rfl) dX1_isSound_132 ⟨(show _ ≤ 150 by omega), (show _ ≤ 16853 by omega)⟩ (fun r_4 w H locs hH h => ?_)
            refine hx_ckO C0 hU hH (ci := 6) rfl q438 h dX1_isSound_137 (fun h => ?_)
            refine hx_astore C0 dX1_isSound_140 hl (by decide) (lv' := [(5, va_rf r_4), (0, va_rf (some a0)), (1, va_rf (some a1)), (2, va_rf (some a2)), (3, va_rf (some a3)), (4, va_rf (some b_1))]) rfl (fun ls hl => ?_)
            refine hx_aload C0 dX1_isSound_142 (lv_at hl 0 rfl) ?_
            refine hx_aload_n C0 dX1_isSound_144 rfl (lv_at hl 4 rfl) ?_
            refine lv_acmp_ne (rx := r_4) (ry := some a3) hx hb dX1_isSound_145 (tgt := 151) (by decide) (fun c_5 => ?_) (fun c_5 => ?_)
            · have h := h.2 c_5
              refine hx_aload C0 dX1_isSound_151 (lv_at hl 0 rfl) ?_
              obtain ⟨b_6, rfl, h9⟩ := h
              have h := h9
              clear h9
              refine hx_gIN C0 hU hH (ci := 6) rfl in_X7 0 (by decide) q803 (fun _ h9 => h9) h dX1_isSound_153 (fun i_7 h => ?_)
              refine hx_aload_n C0 dX1_isSound_156 rfl (lv_at hl 4 rfl) ?_
              refine hx_gIN C0 hU hH (ci := 6) rfl in_X7 0 (by decide) q803 (fun _ h9 => h9) h dX1_isSound_157 (fun i_8 h => ?_)
              refine lv_icmp_ne hx hb dX1_isSound_160 (tgt := 165) (by decide) (fun c_9 => ?_) (fun c_9 => ?_)
              · have h := h.2 c_9
                refine hx_aload_n C0 dX1_isSound_165 rfl (lv_at hl 4 rfl) ?_
                refine hx_gIN C0 hU hH (ci := 6) rfl in_X7 1 (by decide) q805 (fun _ h9 => h9) h dX1_isSound_166 (fun i_10 h => ?_)
                refine hx_aload C0 dX1_isSound_169 (lv_at hl 0 rfl) ?_
                refine hx_gIN C0 hU hH (ci := 6) rfl in_X7 0 (by decide) q803 (fun _ h9 => h9) h dX1_isSound_171 (fun i_11 h => ?_)
                refine lv_icmp_ne hx hb dX1_isSound_174 (tgt := 227) (by decide) (fun c_12 => ?_) (fun c_12 => ?_)
                · have h := h.2 c_12
                  refine W.widen (k := cl86 + 1) (n := sl86 + 4) (by omega) (by omega) ?_
                  exact b227 _ _ _ _ _ _ h _ _ _ hH (lv_sub hl [1, 2, 3, 4, 5] rfl)
                · have h := h.1 c_12
                  refine hx_aload C0 dX1_isSound_177 (lv_at hl 0 rfl) ?_
                  refine hx_gIN C0 hU hH (ci := 6) rfl in_X7 1 (by decide) q805 (fun _ h9 => h9) h dX1_isSound_179 (fun i_13 h => ?_)
                  refine hx_aload_n C0 dX1_isSound_182 rfl (lv_at hl 4 rfl) ?_
                  refine hx_gIN C0 hU hH (ci := 6) rfl in_X7 0 (by decide) q803 (fun _ h9 => h9) h dX1_isSound_183 (fun i_14 h => ?_)
                  refine lv_icmp_ne hx hb dX1_isSound_186 (tgt := 227) (by decide) (fun c_15 => ?_) (fun c_15 => ?_)
                  · have h := h.2 c_15
                    refine W.widen (k := cl86 + 1) (n := sl86 + 4) (by omega) (by omega) ?_
                    exact b227 _ _ _ _ _ _ h _ _ _ hH (lv_sub hl [1, 2, 3, 4, 5] rfl)
                  · have h := h.1 c_15
                    refine hx_aload_n C0 dX1_isSound_189 rfl (lv_at hl 4 rfl) ?_
                    refine hx_gIN C0 hU hH (ci := 6) rfl in_X7 3 (by decide) q809 (fun _ h9 => h9) h dX1_isSound_190 (fun i_16 h => ?_)
                    refine hx_aload C0 dX1_isSound_193 (lv_at hl 0 rfl) ?_
                    refine hx_gIN C0 hU hH (ci := 6) rfl in_X7 4 (by decide) q811 (fun _ h9 => h9) h dX1_isSound_195 (fun i_17 h => ?_)
                    refine lv_icmp_ne hx hb dX1_isSound_198 (tgt := 225) (by decide) (fun c_18 => ?_) (fun c_18 => ?_)
                    · have h := h.2 c_18
                      refine lv_iconst (v := 0) hx hb dX1_isSound_225 (by decide) ?_
                      exact hx_retz C0 hH hr hlocks (Or.inl rfl) h (by omega) (by omega) dX1_isSound_226
                    · have h := h.1 c_18
                      refine hx_aload_n C0 dX1_isSound_201 rfl (lv_at hl 4 rfl) ?_
                      refine hx_gIN C0 hU hH (ci := 6) rfl in_X7 4 (by decide) q811 (fun _ h9 => h9) h dX1_isSound_202 (fun i_19 h => ?_)
                      refine hx_aload C0 dX1_isSound_205 (lv_at hl 0 rfl) ?_
                      refine hx_gIN C0 hU hH (ci := 6) rfl in_X7 3 (by decide) q809 (fun _ h9 => h9) h dX1_isSound_207 (fun i_20 h => ?_)
                      refine lv_icmp_ne hx hb dX1_isSound_210 (tgt := 225) (by decide) (fun c_21 => ?_) (fun c_21 => ?_)
                      · have h := h.2 c_21
                        refine lv_iconst (v := 0) hx hb dX1_isSound_225 (by decide) ?_
                        exact hx_retz C0 hH hr hlocks (Or.inl rfl) h (by omega) (by omega) dX1_isSound_226
                      · have h := h.1 c_21
                        refine hx_aload_n C0 dX1_isSound_213 rfl (lv_at hl 4 rfl) ?_
                        refine hx_gIN C0 hU hH (ci := 6) rfl in_X7 5 (by decide) q813 (fun _ h9 => h9) h dX1_isSound_214 (fun i_22 h => ?_)
                        refine hx_aload C0 dX1_isSound_217 (lv_at hl 0 rfl) ?_
                        refine hx_gIN C0 hU hH (ci := 6) rfl in_X7 5 (by decide) q813 (fun _ h9 => h9) h dX1_isSound_219 (fun i_23 h => ?_)
                        refine lv_icmp_ne hx hb dX1_isSound_222 (tgt := 227) (by decide) (fun c_24 => ?_) (fun c_24 => ?_)
                        · have h := h.2 c_24
                          refine W.widen (k := cl86 + 1) (n := sl86 + 4) (by omega) (by omega) ?_
                          exact b227 _ _ _ _ _ _ h _ _ _ hH (lv_sub hl [1, 2, 3, 4, 5] rfl)
                        · have h := h.1 c_24
                          refine lv_iconst (v := 0) hx hb dX1_isSound_225 (by decide) ?_
                          exact hx_retz C0 hH hr hlocks (Or.inl rfl) h (by omega) (by omega) dX1_isSound_226
              · have h := h.1 c_9
                refine lv_iconst (v := 0) hx hb dX1_isSound_163 (by decide) ?_
                exact hx_retz C0 hH hr hlocks (Or.inl rfl) h (by omega) (by omega) dX1_isSound_164
            · have h := h.1 c_5
              refine lv_goto hx hb dX1_isSound_148 (tgt := 120) (by decide) ?_
              refine W.widen (k := cl86 + 1) (n := sl86 + 4) (by omega) (by omega) ?_
              exact ih120 _ _ _ _ _ _ h _ _ _ hH (lv_sub hl [1, 2, 3, 4, 5] rfl)
      refine hx_aload_n C0 dX1_isSound_86 rfl (lv_at hl 2 rfl) ?_
      obtain ⟨b_1, rfl, h9⟩ := h
      have h := h9
      clear h9
      obtain ⟨ho, h⟩ := h
      refine hx_Fi C0 hU hH (As := []) (wk_J17_hasNext l h) (hU.1.1 8 _ rfl).2 (va_cwF 0 hts (lw_F q350 q354 q356 q86 q358) rfl rfl rfl hU.2.2.2.2.1.1 (by decide +kernel) ⟨Nat.le_of_ble_eq_true rfl, Nat.le_of_ble_eq_true rfl⟩) (hx_recv hU hH (ci := 8) rfl ho) rfl hl.1 rfl (Nat.le_of_ble_eq_true rfl) dX1_isSound_87 ⟨(show _ ≤ 150 by omega), (show _ ≤ 16853 by omega)⟩ (fun i_2 w H locs hH h => ?_)
      refine lv_if_eq hx hb dX1_isSound_92 (tgt := 233) (by decide) (fun c_3 => ?_) (fun c_3 => ?_)
      · have h := h.1 c_3
        refine hx_aload_n C0 dX1_isSound_233 rfl (lv_at hl 0 rfl) ?_
        refine hx_gR C0 hU hH (ci := 0) rfl in_X1 7 (by decide) q270 (fun _ h9 => h9) h dX1_isSound_234 (fun r_4 h => ?_)
        obtain ⟨b_5, rfl, h9⟩ := h
        have h := h9
        clear h9
        obtain ⟨ho, h⟩ := h
        refine hx_Vq C0 hU hH (As := []) (wk_J2_iterator l h) (cwV 0 hts (lw_V q326 q327 q328 q63 q329) rfl rfl rfl (by decide +kernel) ⟨Nat.le_of_ble_eq_true rfl, Nat.le_of_ble_eq_true rfl⟩) (hx_recv hU hH (ci := 7) rfl ho) rfl hl.1 rfl (Nat.le_of_ble_eq_true rfl) dX1_isSound_237 ⟨(show _ ≤ 150 by omega), (show _ ≤ 16853 by omega)⟩ (fun r_6 w H locs hH h => ?_)
        refine hx_astore_n C0 dX1_isSound_240 rfl hl (by decide) (lv' := [(2, va_rf r_6), (0, va_rf (some a0)), (1, va_rf (some a1))]) rfl (fun ls hl => ?_)
        refine W.widen (k := 87) (n := 16475) (by omega) (by omega) ?_
        exact L241 62 (87) (16475) (Nat.le_of_ble_eq_true rfl) (Nat.le_of_ble_eq_true rfl) _ _ h _ _ _ hH (lv_sub hl [0] rfl)
      · have h := h.2 c_3
        refine hx_aload_n C0 dX1_isSound_95 rfl (lv_at hl 2 rfl) ?_
        obtain ⟨ho, h⟩ := h
        refine hx_Fq C0 hU hH (As := []) (wk_J17_next l h) (hU.1.1 8 _ rfl).2 (va_cwF 0 hts (lw_F q360 q363 q365 q86 q367) rfl rfl rfl hU.2.2.2.2.1.2 (by decide +kernel) ⟨Nat.le_of_ble_eq_true rfl, Nat.le_of_ble_eq_true rfl⟩) (hx_recv hU hH (ci := 8) rfl ho) rfl hl.1 rfl (Nat.le_of_ble_eq_true rfl) dX1_isSound_96 ⟨(show _ ≤ 150 by omega), (show _ ≤ 16853 by omega)⟩ (fun r_7 w H locs hH h => ?_)
        refine hx_ckO C0 hU hH (ci := 6) rfl q438 h dX1_isSound_101 (fun h => ?_)
        refine hx_astore_n C0 dX1_isSound_104 rfl hl (by decide) (lv' := [(3, va_rf r_7), (0, va_rf (some a0)), (1, va_rf (some a1)), (2, va_rf (some b_1))]) rfl (fun ls hl => ?_)
        refine hx_aload_n C0 dX1_isSound_105 rfl (lv_at hl 0 rfl) ?_
        obtain ⟨b_8, rfl, h9⟩ := h
        have h := h9
        clear h9
        obtain ⟨ho, h⟩ := h
        refine hx_VNi C0 hU hH (As := []) (wk_X7_isSound l h) ⟨va_cnB 0 hts (lw_meth q443) rfl rfl rfl (hU.2.2.1 _ q439 rfl) (hts _ q85) (by decide +kernel) ⟨Nat.le_of_ble_eq_true rfl, Nat.le_of_ble_eq_true rfl⟩, hts _ q441, hts _ qs6⟩ (hx_recv hU hH (ci := 6) rfl ho) rfl hl.1 rfl (Nat.le_of_ble_eq_true rfl) dX1_isSound_106 ⟨(show _ ≤ 150 by omega), (show _ ≤ 16853 by omega)⟩ (fun i_9 w H locs hH h => ?_)
        refine lv_if_ne hx hb dX1_isSound_109 (tgt := 114) (by decide) (fun c_10 => ?_) (fun c_10 => ?_)
        · have h := h.2 c_10
          refine hx_aload_n C0 dX1_isSound_114 rfl (lv_at hl 2 rfl) ?_
          obtain ⟨ho, h⟩ := h
          refine hx_Vq C0 hU hH (As := []) (wk_J2_iterator l h) (cwV 0 hts (lw_V q326 q327 q328 q63 q329) rfl rfl rfl (by decide +kernel) ⟨Nat.le_of_ble_eq_true rfl, Nat.le_of_ble_eq_true rfl⟩) (hx_recv hU hH (ci := 7) rfl ho) rfl hl.1 rfl (Nat.le_of_ble_eq_true rfl) dX1_isSound_115 ⟨(show _ ≤ 150 by omega), (show _ ≤ 16853 by omega)⟩ (fun r_11 w H locs hH h => ?_)
          refine hx_astore C0 dX1_isSound_118 hl (by decide) (lv' := [(4, va_rf r_11), (3, va_rf (some b_8)), (0, va_rf (some a0)), (1, va_rf (some a1)), (2, va_rf (some b_1))]) rfl (fun ls hl => ?_)
          obtain ⟨n9, h⟩ := h
          refine W.widen (k := cl86 + 1) (n := sl86 + 4) (by omega) (by omega) ?_
          exact L120 n9 _ _ _ _ _ _ h _ _ _ hH (lv_sub hl [2, 3, 4, 1, 0] rfl)
        · have h := h.1 c_10
          refine lv_iconst (v := 0) hx hb dX1_isSound_112 (by decide) ?_
          exact hx_retz C0 hH hr hlocks (Or.inl rfl) h (by omega) (by omega) dX1_isSound_113
  have L10 : ∀ (n10 cl10 sl10 : Nat), cl10 + n10 * 16 ≤ 65 → sl10 + n10 * 4096 ≤ 16387 → ∀ (w : Hp) (a0 : Nat) (a1 : Nat) (x2 : Int32), lpN (wp_X1_isSound_l10 K ) n10 (w, a0, a1, x2) → ∀ (H : Heap) (locs : List Loc) (ls : Array Slot), hx_H G w s H locs → lv_has ls 6 [(0, va_rf (some a0)), (1, va_rf (some a1)), (2, .int x2)] → W p l e (headSpec (ws9_X1_isSound) rm_X1_isSound).room s m args below meth c H locs (cl10 + 0) (sl10 + 0) (Q9_X1_isSound below args s G K) (F0 m 10 ls []) := by
    intro n10
    induction n10 with
    | zero => intro cl10 sl10 _ _ w a0 a1 x2 h; exact h.elim
    | succ n10 ih10 =>
      intro cl10 sl10 hcl10 hsl10 w a0 a1 x2 h H locs ls hH hl
      have h : wp_X1_isSound_s10 K  (fun w a0 a1 x2 => lpN (wp_X1_isSound_l10 K ) n10 (w, a0, a1, x2)) w a0 a1 x2 := h
      have L17 : ∀ (n17 cl17 sl17 : Nat), cl17 + n17 * 4 ≤ cl10 + 16 → sl17 + n17 * 1024 ≤ sl10 + 4096 → ∀ (w : Hp) (a0 : Nat) (a1 : Nat) (x2 : Int32) (x3 : Int32), lpN (wp_X1_isSound_l17 K (fun w a0 a1 x2 => lpN (wp_X1_isSound_l10 K ) n10 (w, a0, a1, x2))) n17 (w, a0, a1, x2, x3) → ∀ (H : Heap) (locs : List Loc) (ls : Array Slot), hx_H G w s H locs → lv_has ls 6 [(0, va_rf (some a0)), (1, va_rf (some a1)), (2, .int x2), (3, .int x3)] → W p l e (headSpec (ws9_X1_isSound) rm_X1_isSound).room s m args below meth c H locs (cl17 + 0) (sl17 + 0) (Q9_X1_isSound below args s G K) (F0 m 17 ls []) := by
        intro n17
        induction n17 with
        | zero => intro cl17 sl17 _ _ w a0 a1 x2 x3 h; exact h.elim
        | succ n17 ih17 =>
          intro cl17 sl17 hcl17 hsl17 w a0 a1 x2 x3 h H locs ls hH hl
          have h : wp_X1_isSound_s17 K (fun w a0 a1 x2 => lpN (wp_X1_isSound_l10 K ) n10 (w, a0, a1, x2)) (fun w a0 a1 x2 x3 => lpN (wp_X1_isSound_l17 K (fun w a0 a1 x2 => lpN (wp_X1_isSound_l10 K ) n10 (w, a0, a1, x2))) n17 (w, a0, a1, x2, x3)) w a0 a1 x2 x3 := h
          have b69 : ∀ (w : Hp) (a0 : Nat) (a1 : Nat) (x2 : Int32) (x3 : Int32), wp_X1_isSound_b69 K (fun w a0 a1 x2 => lpN (wp_X1_isSound_l10 K ) n10 (w, a0, a1, x2)) (fun w a0 a1 x2 x3 => lpN (wp_X1_isSound_l17 K (fun w a0 a1 x2 => lpN (wp_X1_isSound_l10 K ) n10 (w, a0, a1, x2))) n17 (w, a0, a1, x2, x3)) w a0 a1 x2 x3 → ∀ (H : Heap) (locs : List Loc) (ls : Array Slot), hx_H G w s H locs → lv_has ls 6 [(0, va_rf (some a0)), (1, va_rf (some a1)), (2, .int x2), (3, .int x3)] → W p l e (headSpec (ws9_X1_isSound) rm_X1_isSound).room s m args below meth c H locs (cl17 + 4) (sl17 + 1024) (Q9_X1_isSound below args s G K) (F0 m 69 ls []) := by
            intro w a0 a1 x2 x3 h H locs ls hH hl
            obtain ⟨i_1, ei_1⟩ : ∃ z, z = x3 + 1 := ⟨_, rfl⟩
            have h := h i_1 ei_1
            refine lv_iinc (k := 3) hx hb dX1_isSound_69 hl rfl (v := i_1) (by rw [ei_1]; rfl) (by decide) (lv' := [(3, .int i_1), (0, va_rf (some a0)), (1, va_rf (some a1)), (2, .int x2)]) rfl (fun ls hl => ?_)
            refine lv_goto hx hb dX1_isSound_72 (tgt := 17) (by decide) ?_
            refine W.widen (k := cl17 + 4) (n := sl17 + 1024) (by omega) (by omega) ?_
            exact ih17 _ _ (by omega) (by omega) _ _ _ _ _ h _ _ _ hH (lv_sub hl [1, 2, 3, 0] rfl)
          have L25 : ∀ (n25 cl25 sl25 : Nat), cl25 + n25 * 1 ≤ cl17 + 4 → sl25 + n25 * 256 ≤ sl17 + 1024 → ∀ (w : Hp) (a0 : Nat) (a1 : Nat) (x2 : Int32) (x3 : Int32) (x4 : Int32), lpN (wp_X1_isSound_l25 K (fun w a0 a1 x2 => lpN (wp_X1_isSound_l10 K ) n10 (w, a0, a1, x2)) (fun w a0 a1 x2 x3 => lpN (wp_X1_isSound_l17 K (fun w a0 a1 x2 => lpN (wp_X1_isSound_l10 K ) n10 (w, a0, a1, x2))) n17 (w, a0, a1, x2, x3))) n25 (w, a0, a1, x2, x3, x4) → ∀ (H : Heap) (locs : List Loc) (ls : Array Slot), hx_H G w s H locs → lv_has ls 6 [(0, va_rf (some a0)), (1, va_rf (some a1)), (2, .int x2), (3, .int x3), (4, .int x4)] → W p l e (headSpec (ws9_X1_isSound) rm_X1_isSound).room s m args below meth c H locs (cl25 + 0) (sl25 + 0) (Q9_X1_isSound below args s G K) (F0 m 25 ls []) := by
            intro n25
            induction n25 with
            | zero => intro cl25 sl25 _ _ w a0 a1 x2 x3 x4 h; exact h.elim
            | succ n25 ih25 =>
              intro cl25 sl25 hcl25 hsl25 w a0 a1 x2 x3 x4 h H locs ls hH hl
              have h : wp_X1_isSound_s25 K (fun w a0 a1 x2 => lpN (wp_X1_isSound_l10 K ) n10 (w, a0, a1, x2)) (fun w a0 a1 x2 x3 => lpN (wp_X1_isSound_l17 K (fun w a0 a1 x2 => lpN (wp_X1_isSound_l10 K ) n10 (w, a0, a1, x2))) n17 (w, a0, a1, x2, x3)) (fun w a0 a1 x2 x3 x4 => lpN (wp_X1_isSound_l25 K (fun w a0 a1 x2 => lpN (wp_X1_isSound_l10 K ) n10 (w, a0, a1, x2)) (fun w a0 a1 x2 x3 => lpN (wp_X1_isSound_l17 K (fun w a0 a1 x2 => lpN (wp_X1_isSound_l10 K ) n10 (w, a0, a1, x2))) n17 (w, a0, a1, x2, x3))) n25 (w, a0, a1, x2, x3, x4)) w a0 a1 x2 x3 x4 := h
              have b63 : ∀ (w : Hp) (a0 : Nat) (a1 : Nat) (x2 : Int32) (x3 : Int32) (x4 : Int32), wp_X1_isSound_b63 K (fun w a0 a1 x2 => lpN (wp_X1_isSound_l10 K ) n10 (w, a0, a1, x2)) (fun w a0 a1 x2 x3 => lpN (wp_X1_isSound_l17 K (fun w a0 a1 x2 => lpN (wp_X1_isSound_l10 K ) n10 (w, a0, a1, x2))) n17 (w, a0, a1, x2, x3)) (fun w a0 a1 x2 x3 x4 => lpN (wp_X1_isSound_l25 K (fun w a0 a1 x2 => lpN (wp_X1_isSound_l10 K ) n10 (w, a0, a1, x2)) (fun w a0 a1 x2 x3 => lpN (wp_X1_isSound_l17 K (fun w a0 a1 x2 => lpN (wp_X1_isSound_l10 K ) n10 (w, a0, a1, x2))) n17 (w, a0, a1, x2, x3))) n25 (w, a0, a1, x2, x3, x4)) w a0 a1 x2 x3 x4 → ∀ (H : Heap) (locs : List Loc) (ls : Array Slot), hx_H G w s H locs → lv_has ls 6 [(0, va_rf (some a0)), (1, va_rf (some a1)), (2, .int x2), (3, .int x3), (4, .int x4)] → W p l e (headSpec (ws9_X1_isSound) rm_X1_isSound).room s m args below meth c H locs (cl25 + 1) (sl25 + 256) (Q9_X1_isSound below args s G K) (F0 m 63 ls []) := by
                intro w a0 a1 x2 x3 x4 h H locs ls hH hl
                obtain ⟨i_1, ei_1⟩ : ∃ z, z = x4 + 1 := ⟨_, rfl⟩
                have h := h i_1 ei_1
                refine lv_iinc (k := 4) hx hb dX1_isSound_63 hl rfl (v := i_1) (by rw [ei_1]; rfl) (by decide) (lv' := [(4, .int i_1), (0, va_rf (some a0)), (1, va_rf (some a1)), (2, .int x2), (3, .int x3)]) rfl (fun ls hl => ?_)
                refine lv_goto hx hb dX1_isSound_66 (tgt := 25) (by decide) ?_
                refine W.widen (k := cl25 + 1) (n := sl25 + 256) (by omega) (by omega) ?_
                exact ih25 _ _ (by omega) (by omega) _ _ _ _ _ _ h _ _ _ hH (lv_sub hl [1, 2, 3, 4, 0] rfl)
              refine lv_iload_n hx hb dX1_isSound_25 rfl (lv_at hl 3 rfl) ?_
              refine lv_iload_n hx hb dX1_isSound_26 rfl (lv_at hl 2 rfl) ?_
              refine lv_icmp_eq hx hb dX1_isSound_27 (tgt := 69) (by decide) (fun c_1 => ?_) (fun c_1 => ?_)
              · have h := h.1 c_1
                refine W.widen (k := cl17 + 4) (n := sl17 + 1024) (by omega) (by omega) ?_
                exact b69 _ _ _ _ _ h _ _ _ hH (lv_sub hl [0, 1, 2, 3] rfl)
              · have h := h.2 c_1
                refine lv_iload hx hb dX1_isSound_30 (lv_at hl 4 rfl) ?_
                refine lv_iconst (v := 3) hx hb dX1_isSound_32 (by decide) ?_
                refine lv_icmp_ge hx hb dX1_isSound_33 (tgt := 69) (by decide) (fun c_2 => ?_) (fun c_2 => ?_)
                · have h := h.1 c_2
                  refine W.widen (k := cl17 + 4) (n := sl17 + 1024) (by omega) (by omega) ?_
                  exact b69 _ _ _ _ _ h _ _ _ hH (lv_sub hl [0, 1, 2, 3] rfl)
                · have h := h.2 c_2
                  refine hx_aload_n C0 dX1_isSound_36 rfl (lv_at hl 0 rfl) ?_
                  refine hx_gR C0 hU hH (ci := 0) rfl in_X1 6 (by decide) q269 (fun _ h9 => h9) h dX1_isSound_37 (fun r_3 h => ?_)
                  refine lv_iload_n hx hb dX1_isSound_40 rfl (lv_at hl 2 rfl) ?_
                  obtain ⟨b_4, rfl, h9⟩ := h
                  have h := h9
                  clear h9
                  refine hx_aR C0 hU hH h dX1_isSound_41 (fun r_5 h => ?_)
                  refine lv_iload_n hx hb dX1_isSound_42 rfl (lv_at hl 3 rfl) ?_
                  obtain ⟨b_6, rfl, h9⟩ := h
                  have h := h9
                  clear h9
                  refine hx_aR C0 hU hH h dX1_isSound_43 (fun r_7 h => ?_)
                  refine lv_iload hx hb dX1_isSound_44 (lv_at hl 4 rfl) ?_
                  obtain ⟨b_8, rfl, h9⟩ := h
                  have h := h9
                  clear h9
                  obtain ⟨ho, h⟩ := h
                  refine hx_VNq C0 hU hH (As := [.int x4]) (wk_X3_session l h) ⟨va_cnB 1 hts (lw_meth q325) rfl rfl rfl (hU.2.2.1 _ q322 rfl) (hts _ q70) (by decide +kernel) ⟨Nat.le_of_ble_eq_true rfl, Nat.le_of_ble_eq_true rfl⟩, hts _ q324, hts _ qs4⟩ (hx_recv hU hH (ci := 2) rfl ho) rfl hl.1 rfl (Nat.le_of_ble_eq_true rfl) dX1_isSound_46 ⟨(show _ ≤ 150 by omega), (show _ ≤ 16853 by omega)⟩ (fun r_9 w H locs hH h => ?_)
                  refine hx_astore C0 dX1_isSound_49 hl (by decide) (lv' := [(5, va_rf r_9), (0, va_rf (some a0)), (1, va_rf (some a1)), (2, .int x2), (3, .int x3), (4, .int x4)]) rfl (fun ls hl => ?_)
                  refine hx_aload C0 dX1_isSound_51 (lv_at hl 0 rfl) ?_
                  refine hx_ifnull C0 dX1_isSound_53 (tgt := 63) (by decide) (fun c_10 => ?_) (fun c_10 => ?_)
                  · have h := h.1 c_10
                    refine W.widen (k := cl25 + 1) (n := sl25 + 256) (by omega) (by omega) ?_
                    exact b63 _ _ _ _ _ _ h _ _ _ hH (lv_sub hl [1, 2, 3, 4, 5] rfl)
                  · have h := h.2 c_10
                    refine hx_aload_n C0 dX1_isSound_56 rfl (lv_at hl 2 rfl) ?_
                    refine hx_aload C0 dX1_isSound_57 (lv_at hl 0 rfl) ?_
                    obtain ⟨b_11, rfl, h9⟩ := h
                    have h := h9
                    clear h9
                    obtain ⟨ho, h⟩ := h
                    refine hx_Vi C0 hU hH (As := [va_rf (some b_11)]) (wk_J2_add l h) (cwV 1 hts (lw_V q154 q155 q156 q63 q157) rfl rfl rfl (by decide +kernel) ⟨Nat.le_of_ble_eq_true rfl, Nat.le_of_ble_eq_true rfl⟩) (hx_recv hU hH (ci := 7) rfl ho) rfl hl.1 rfl (Nat.le_of_ble_eq_true rfl) dX1_isSound_59 ⟨(show _ ≤ 150 by omega), (show _ ≤ 16853 by omega)⟩ (fun i_12 w H locs hH h => ?_)
                    refine lv_pop hx hb dX1_isSound_62 rfl ?_
                    refine W.widen (k := cl25 + 1) (n := sl25 + 256) (by omega) (by omega) ?_
                    exact b63 _ _ _ _ _ _ h _ _ _ hH (lv_sub hl [1, 2, 3, 4, 5] rfl)
          refine lv_iload_n hx hb dX1_isSound_17 rfl (lv_at hl 3 rfl) ?_
          refine lv_iconst (v := 3) hx hb dX1_isSound_18 (by decide) ?_
          refine lv_icmp_ge hx hb dX1_isSound_19 (tgt := 75) (by decide) (fun c_1 => ?_) (fun c_1 => ?_)
          · have h := h.1 c_1
            obtain ⟨i_2, ei_2⟩ : ∃ z, z = x2 + 1 := ⟨_, rfl⟩
            have h := h i_2 ei_2
            refine lv_iinc (k := 2) hx hb dX1_isSound_75 hl rfl (v := i_2) (by rw [ei_2]; rfl) (by decide) (lv' := [(2, .int i_2), (0, va_rf (some a0)), (1, va_rf (some a1)), (3, .int x3)]) rfl (fun ls hl => ?_)
            refine lv_goto hx hb dX1_isSound_78 (tgt := 10) (by decide) ?_
            refine W.widen (k := cl10 + 16) (n := sl10 + 4096) (by omega) (by omega) ?_
            exact ih10 _ _ (by omega) (by omega) _ _ _ _ h _ _ _ hH (lv_sub hl [1, 2, 0] rfl)
          · have h := h.2 c_1
            refine lv_iconst (v := 0) hx hb dX1_isSound_22 (by decide) ?_
            refine lv_istore hx hb dX1_isSound_23 hl (by decide) (lv' := [(4, .int (0 : Int32)), (0, va_rf (some a0)), (1, va_rf (some a1)), (2, .int x2), (3, .int x3)]) rfl (fun ls hl => ?_)
            refine W.widen (k := cl17 + 0) (n := sl17 + 0) (by omega) (by omega) ?_
            exact L25 4 (cl17 + 0) (sl17 + 0) (Nat.le_of_eq (Nat.add_assoc _ _ _)) (Nat.le_of_eq (Nat.add_assoc _ _ _)) _ _ _ _ _ _ h _ _ _ hH (lv_sub hl [1, 2, 3, 4, 0] rfl)
      refine lv_iload_n hx hb dX1_isSound_10 rfl (lv_at hl 2 rfl) ?_
      refine lv_iconst (v := 3) hx hb dX1_isSound_11 (by decide) ?_
      refine lv_icmp_ge hx hb dX1_isSound_12 (tgt := 81) (by decide) (fun c_1 => ?_) (fun c_1 => ?_)
      · have h := h.1 c_1
        refine hx_aload_n C0 dX1_isSound_81 rfl (lv_at hl 1 rfl) ?_
        obtain ⟨ho, h⟩ := h
        refine hx_Vq C0 hU hH (As := []) (wk_J2_iterator l h) (cwV 0 hts (lw_V q326 q327 q328 q63 q329) rfl rfl rfl (by decide +kernel) ⟨Nat.le_of_ble_eq_true rfl, Nat.le_of_ble_eq_true rfl⟩) (hx_recv hU hH (ci := 7) rfl ho) rfl hl.1 rfl (Nat.le_of_ble_eq_true rfl) dX1_isSound_82 ⟨(show _ ≤ 150 by omega), (show _ ≤ 16853 by omega)⟩ (fun r_2 w H locs hH h => ?_)
        refine hx_astore_n C0 dX1_isSound_85 rfl hl (by decide) (lv' := [(2, va_rf r_2), (0, va_rf (some a0)), (1, va_rf (some a1))]) rfl (fun ls hl => ?_)
        refine W.widen (k := 66) (n := 16391) (by omega) (by omega) ?_
        exact L86 20 (66) (16391) (Nat.le_of_ble_eq_true rfl) (Nat.le_of_ble_eq_true rfl) _ _ _ _ h _ _ _ hH (lv_sub hl [1, 2, 0] rfl)
      · have h := h.2 c_1
        refine lv_iconst (v := 0) hx hb dX1_isSound_15 (by decide) ?_
        refine lv_istore_n hx hb dX1_isSound_16 rfl hl (by decide) (lv' := [(3, .int (0 : Int32)), (0, va_rf (some a0)), (1, va_rf (some a1)), (2, .int x2)]) rfl (fun ls hl => ?_)
        refine W.widen (k := cl10 + 0) (n := sl10 + 0) (by omega) (by omega) ?_
        exact L17 4 (cl10 + 0) (sl10 + 0) (Nat.le_of_eq (Nat.add_assoc _ _ _)) (Nat.le_of_eq (Nat.add_assoc _ _ _)) _ _ _ _ _ h _ _ _ hH (lv_sub hl [1, 2, 3, 0] rfl)
  refine hx_new C0 hU hH (ci := 7) rfl in_J2 tyJ2 tyJ2_ok q101 q102 q63 nfJ2 (Nat.le_of_ble_eq_true rfl) (Nat.le_of_ble_eq_true rfl) h dX1_isSound_0 (fun b_1 w H locs hH h => ?_)
  refine lv_dup hx hb dX1_isSound_3 rfl ?_
  refine hx_Iv C0 hU hH (As := []) (wk_J2_init l h) (cwI 0 hts (lw_meth q105) rfl rfl rfl (hts _ q63) (hts _ q103) (hts _ q104) rfl (by decide +kernel) ⟨Nat.le_of_ble_eq_true rfl, Nat.le_of_ble_eq_true rfl⟩) rfl hl.1 rfl (Nat.le_of_ble_eq_true rfl) dX1_isSound_4 ⟨Nat.le_of_ble_eq_true rfl, Nat.le_of_ble_eq_true rfl⟩ (fun w H locs hH h => ?_)
  refine hx_astore_n C0 dX1_isSound_7 rfl hl (by decide) (lv' := [(1, va_rf (some b_1)), (0, va_rf (some a0))]) rfl (fun ls hl => ?_)
  refine lv_iconst (v := 0) hx hb dX1_isSound_8 (by decide) ?_
  refine lv_istore_n hx hb dX1_isSound_9 rfl hl (by decide) (lv' := [(2, .int (0 : Int32)), (1, va_rf (some b_1)), (0, va_rf (some a0))]) rfl (fun ls hl => ?_)
  refine W.widen (k := 1) (n := 3) (Nat.le_of_ble_eq_true rfl) (Nat.le_of_ble_eq_true rfl) ?_
  exact L10 4 (1) (3) (Nat.le_of_ble_eq_true rfl) (Nat.le_of_ble_eq_true rfl) _ _ _ _ h _ _ _ hH (lv_sub hl [2, 1, 0] rfl)
