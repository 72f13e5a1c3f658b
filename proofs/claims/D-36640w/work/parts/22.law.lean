/-! the law's body (printed by gen/gen.py: weakest preconditions and walks) -/
set_option maxRecDepth 100000
def wp_L_law_b2529 (L : Nat) (xs : Nat → Int32) (bk23 : Hp → Nat → Nat → Nat → Int32 → Prop) (w : Hp) (a1 : Nat) (a2 : Nat) (a3 : Nat) (x4 : Int32) : Prop :=
  nm (x4 + 5) fun i_1 => bk23 w a1 a2 a3 i_1
def wp_L_law_b2499 (L : Nat) (xs : Nat → Int32) (bk23 : Hp → Nat → Nat → Nat → Int32 → Prop) (w : Hp) (a1 : Nat) (a2 : Nat) (a3 : Nat) (x4 : Int32) : Prop :=
  wp_L_law_b2529 L xs bk23 w a1 a2 a3 x4
def wp_L_law_b2458 (L : Nat) (xs : Nat → Int32) (bk23 : Hp → Nat → Nat → Nat → Int32 → Prop) (w : Hp) (a1 : Nat) (a2 : Nat) (a3 : Nat) (x4 : Int32) : Prop :=
  wp_L_law_b2529 L xs bk23 w a1 a2 a3 x4
def wp_L_law_b2415 (L : Nat) (xs : Nat → Int32) (bk23 : Hp → Nat → Nat → Nat → Int32 → Prop) (w : Hp) (a1 : Nat) (a2 : Nat) (a3 : Nat) (x4 : Int32) : Prop :=
  wp_L_law_b2529 L xs bk23 w a1 a2 a3 x4
def wp_L_law_b2323 (L : Nat) (xs : Nat → Int32) (bk23 : Hp → Nat → Nat → Nat → Int32 → Prop) (w : Hp) (a1 : Nat) (a2 : Nat) (a3 : Nat) (x4 : Int32) : Prop :=
  wp_L_law_b2529 L xs bk23 w a1 a2 a3 x4
def wp_L_law_b2255 (L : Nat) (xs : Nat → Int32) (bk23 : Hp → Nat → Nat → Nat → Int32 → Prop) (w : Hp) (a1 : Nat) (a2 : Nat) (a3 : Nat) (x4 : Int32) : Prop :=
  wp_L_law_b2529 L xs bk23 w a1 a2 a3 x4
def wp_L_law_b2199 (L : Nat) (xs : Nat → Int32) (bk23 : Hp → Nat → Nat → Nat → Int32 → Prop) (w : Hp) (a1 : Nat) (a2 : Nat) (a3 : Nat) (x4 : Int32) : Prop :=
  wp_L_law_b2529 L xs bk23 w a1 a2 a3 x4
def wp_L_law_b2143 (L : Nat) (xs : Nat → Int32) (bk23 : Hp → Nat → Nat → Nat → Int32 → Prop) (w : Hp) (a1 : Nat) (a2 : Nat) (a3 : Nat) (x4 : Int32) : Prop :=
  wp_L_law_b2529 L xs bk23 w a1 a2 a3 x4
def wp_L_law_b2063 (L : Nat) (xs : Nat → Int32) (bk23 : Hp → Nat → Nat → Nat → Int32 → Prop) (w : Hp) (a1 : Nat) (a2 : Nat) (a3 : Nat) (x4 : Int32) : Prop :=
  wp_L_law_b2529 L xs bk23 w a1 a2 a3 x4
def wp_L_law_b2007 (L : Nat) (xs : Nat → Int32) (bk23 : Hp → Nat → Nat → Nat → Int32 → Prop) (w : Hp) (a1 : Nat) (a2 : Nat) (a3 : Nat) (x4 : Int32) : Prop :=
  wp_L_law_b2529 L xs bk23 w a1 a2 a3 x4
def wp_L_law_b1974 (L : Nat) (xs : Nat → Int32) (bk23 : Hp → Nat → Nat → Nat → Int32 → Prop) (w : Hp) (a1 : Nat) (a2 : Nat) (a3 : Nat) (x4 : Int32) (x5 : Int32) (t0 : Int32) (t1 : Int32) (t2 : Int32) (at3 : Nat) : Prop :=
  isO w at3 3 <| wp_X4_stamp w at3 t2 t1 t0 fun w i_1 => isO w a2 3 <| wp_X4_thrown w a2 fun w i_2 => br (i_2 = x5) (br (x5 = 0) (aJ w a3 (0 : Int32) fun l_5 => br ((lg_cmp l_5 (i_1.toInt64)) = 0) (wp_L_law_b2007 L xs bk23 w a1 a2 a3 x4) (False)) (wp_L_law_b2007 L xs bk23 w a1 a2 a3 x4)) (False)
def wp_L_law_b1941 (L : Nat) (xs : Nat → Int32) (bk23 : Hp → Nat → Nat → Nat → Int32 → Prop) (w : Hp) (a1 : Nat) (a2 : Nat) (a3 : Nat) (x4 : Int32) (t0 : Int32) (t1 : Int32) (t2 : Int32) (at3 : Nat) : Prop :=
  wp_X0_stamp w at3 t2 t1 t0 a3 fun w i_1 => gd (vp_in (x4 + (1 : Int32)) L) <| nm (xs (x4 + (1 : Int32)).toNatClampNeg) fun i_2 => gd (vp_in (x4 + (2 : Int32)) L) <| nm (xs (x4 + (2 : Int32)).toNatClampNeg) fun i_3 => gd (vp_in (x4 + (3 : Int32)) L) <| nm (xs (x4 + (3 : Int32)).toNatClampNeg) fun i_4 => br (i_4 = 0) (wp_L_law_b1974 L xs bk23 w a1 a2 a3 x4 i_1 (0 : Int32) i_3 i_2 a2) (wp_L_law_b1974 L xs bk23 w a1 a2 a3 x4 i_1 (1 : Int32) i_3 i_2 a2)
def wp_L_law_b1911 (L : Nat) (xs : Nat → Int32) (bk23 : Hp → Nat → Nat → Nat → Int32 → Prop) (w : Hp) (a1 : Nat) (a2 : Nat) (a3 : Nat) (x4 : Int32) : Prop :=
  wp_L_law_b2529 L xs bk23 w a1 a2 a3 x4
def wp_L_law_b1843 (L : Nat) (xs : Nat → Int32) (bk23 : Hp → Nat → Nat → Nat → Int32 → Prop) (w : Hp) (a1 : Nat) (a2 : Nat) (a3 : Nat) (x4 : Int32) : Prop :=
  wp_L_law_b2529 L xs bk23 w a1 a2 a3 x4
def wp_L_law_b1775 (L : Nat) (xs : Nat → Int32) (bk23 : Hp → Nat → Nat → Nat → Int32 → Prop) (w : Hp) (a1 : Nat) (a2 : Nat) (a3 : Nat) (x4 : Int32) : Prop :=
  wp_L_law_b2529 L xs bk23 w a1 a2 a3 x4
def wp_L_law_b1707 (L : Nat) (xs : Nat → Int32) (bk23 : Hp → Nat → Nat → Nat → Int32 → Prop) (w : Hp) (a1 : Nat) (a2 : Nat) (a3 : Nat) (x4 : Int32) : Prop :=
  wp_L_law_b2529 L xs bk23 w a1 a2 a3 x4
def wp_L_law_b1701 (L : Nat) (xs : Nat → Int32) (bk23 : Hp → Nat → Nat → Nat → Int32 → Prop) (w : Hp) (a1 : Nat) (a2 : Nat) (a3 : Nat) (x4 : Int32) (t0 : Int64) (t1 : Int64) : Prop :=
  br ((lg_cmp t1 t0) = 0) (wp_L_law_b1707 L xs bk23 w a1 a2 a3 x4) (False)
def wp_L_law_b1632 (L : Nat) (xs : Nat → Int32) (bk23 : Hp → Nat → Nat → Nat → Int32 → Prop) (w : Hp) (a1 : Nat) (a2 : Nat) (a3 : Nat) (x4 : Int32) : Prop :=
  wp_L_law_b2529 L xs bk23 w a1 a2 a3 x4
def wp_L_law_b1540 (L : Nat) (xs : Nat → Int32) (bk23 : Hp → Nat → Nat → Nat → Int32 → Prop) (w : Hp) (a1 : Nat) (a2 : Nat) (a3 : Nat) (x4 : Int32) : Prop :=
  wp_L_law_b2529 L xs bk23 w a1 a2 a3 x4
def wp_L_law_b1472 (L : Nat) (xs : Nat → Int32) (bk23 : Hp → Nat → Nat → Nat → Int32 → Prop) (w : Hp) (a1 : Nat) (a2 : Nat) (a3 : Nat) (x4 : Int32) : Prop :=
  wp_L_law_b2529 L xs bk23 w a1 a2 a3 x4
def wp_L_law_b1404 (L : Nat) (xs : Nat → Int32) (bk23 : Hp → Nat → Nat → Nat → Int32 → Prop) (w : Hp) (a1 : Nat) (a2 : Nat) (a3 : Nat) (x4 : Int32) : Prop :=
  wp_L_law_b2529 L xs bk23 w a1 a2 a3 x4
def wp_L_law_b1348 (L : Nat) (xs : Nat → Int32) (bk23 : Hp → Nat → Nat → Nat → Int32 → Prop) (w : Hp) (a1 : Nat) (a2 : Nat) (a3 : Nat) (x4 : Int32) : Prop :=
  wp_L_law_b2529 L xs bk23 w a1 a2 a3 x4
def wp_L_law_b1342 (L : Nat) (xs : Nat → Int32) (bk23 : Hp → Nat → Nat → Nat → Int32 → Prop) (w : Hp) (a1 : Nat) (a2 : Nat) (a3 : Nat) (x4 : Int32) (t0 : Int64) (t1 : Int64) : Prop :=
  br ((lg_cmp t1 t0) = 0) (wp_L_law_b1348 L xs bk23 w a1 a2 a3 x4) (False)
def wp_L_law_b1285 (L : Nat) (xs : Nat → Int32) (bk23 : Hp → Nat → Nat → Nat → Int32 → Prop) (w : Hp) (a1 : Nat) (a2 : Nat) (a3 : Nat) (x4 : Int32) : Prop :=
  wp_L_law_b2529 L xs bk23 w a1 a2 a3 x4
def wp_L_law_b1191 (L : Nat) (xs : Nat → Int32) (bk23 : Hp → Nat → Nat → Nat → Int32 → Prop) (w : Hp) (a1 : Nat) (a2 : Nat) (a3 : Nat) (x4 : Int32) : Prop :=
  wp_L_law_b2529 L xs bk23 w a1 a2 a3 x4
def wp_L_law_b1135 (L : Nat) (xs : Nat → Int32) (bk23 : Hp → Nat → Nat → Nat → Int32 → Prop) (w : Hp) (a1 : Nat) (a2 : Nat) (a3 : Nat) (x4 : Int32) : Prop :=
  wp_L_law_b2529 L xs bk23 w a1 a2 a3 x4
def wp_L_law_b1067 (L : Nat) (xs : Nat → Int32) (bk23 : Hp → Nat → Nat → Nat → Int32 → Prop) (w : Hp) (a1 : Nat) (a2 : Nat) (a3 : Nat) (x4 : Int32) : Prop :=
  wp_L_law_b2529 L xs bk23 w a1 a2 a3 x4
def wp_L_law_b987 (L : Nat) (xs : Nat → Int32) (bk23 : Hp → Nat → Nat → Nat → Int32 → Prop) (w : Hp) (a1 : Nat) (a2 : Nat) (a3 : Nat) (x4 : Int32) : Prop :=
  wp_L_law_b2529 L xs bk23 w a1 a2 a3 x4
def wp_L_law_b931 (L : Nat) (xs : Nat → Int32) (bk23 : Hp → Nat → Nat → Nat → Int32 → Prop) (w : Hp) (a1 : Nat) (a2 : Nat) (a3 : Nat) (x4 : Int32) : Prop :=
  wp_L_law_b2529 L xs bk23 w a1 a2 a3 x4
def wp_L_law_b875 (L : Nat) (xs : Nat → Int32) (bk23 : Hp → Nat → Nat → Nat → Int32 → Prop) (w : Hp) (a1 : Nat) (a2 : Nat) (a3 : Nat) (x4 : Int32) : Prop :=
  wp_L_law_b2529 L xs bk23 w a1 a2 a3 x4
def wp_L_law_b819 (L : Nat) (xs : Nat → Int32) (bk23 : Hp → Nat → Nat → Nat → Int32 → Prop) (w : Hp) (a1 : Nat) (a2 : Nat) (a3 : Nat) (x4 : Int32) : Prop :=
  wp_L_law_b2529 L xs bk23 w a1 a2 a3 x4
def wp_L_law_b751 (L : Nat) (xs : Nat → Int32) (bk23 : Hp → Nat → Nat → Nat → Int32 → Prop) (w : Hp) (a1 : Nat) (a2 : Nat) (a3 : Nat) (x4 : Int32) : Prop :=
  wp_L_law_b2529 L xs bk23 w a1 a2 a3 x4
def wp_L_law_b745 (L : Nat) (xs : Nat → Int32) (bk23 : Hp → Nat → Nat → Nat → Int32 → Prop) (w : Hp) (a1 : Nat) (a2 : Nat) (a3 : Nat) (x4 : Int32) (t0 : Int64) (t1 : Int64) : Prop :=
  br ((lg_cmp t1 t0) = 0) (wp_L_law_b751 L xs bk23 w a1 a2 a3 x4) (False)
def wp_L_law_b676 (L : Nat) (xs : Nat → Int32) (bk23 : Hp → Nat → Nat → Nat → Int32 → Prop) (w : Hp) (a1 : Nat) (a2 : Nat) (a3 : Nat) (x4 : Int32) : Prop :=
  wp_L_law_b2529 L xs bk23 w a1 a2 a3 x4
def wp_L_law_b584 (L : Nat) (xs : Nat → Int32) (bk23 : Hp → Nat → Nat → Nat → Int32 → Prop) (w : Hp) (a1 : Nat) (a2 : Nat) (a3 : Nat) (x4 : Int32) : Prop :=
  wp_L_law_b2529 L xs bk23 w a1 a2 a3 x4
def wp_L_law_b504 (L : Nat) (xs : Nat → Int32) (bk23 : Hp → Nat → Nat → Nat → Int32 → Prop) (w : Hp) (a1 : Nat) (a2 : Nat) (a3 : Nat) (x4 : Int32) : Prop :=
  wp_L_law_b2529 L xs bk23 w a1 a2 a3 x4
def wp_L_law_b412 (L : Nat) (xs : Nat → Int32) (bk23 : Hp → Nat → Nat → Nat → Int32 → Prop) (w : Hp) (a1 : Nat) (a2 : Nat) (a3 : Nat) (x4 : Int32) : Prop :=
  wp_L_law_b2529 L xs bk23 w a1 a2 a3 x4
def wp_L_law_b406 (L : Nat) (xs : Nat → Int32) (bk23 : Hp → Nat → Nat → Nat → Int32 → Prop) (w : Hp) (a1 : Nat) (a2 : Nat) (a3 : Nat) (x4 : Int32) (t0 : Int64) (t1 : Int64) : Prop :=
  br ((lg_cmp t1 t0) = 0) (wp_L_law_b412 L xs bk23 w a1 a2 a3 x4) (False)
def wp_L_law_b372 (L : Nat) (xs : Nat → Int32) (bk23 : Hp → Nat → Nat → Nat → Int32 → Prop) (w : Hp) (a1 : Nat) (a2 : Nat) (a3 : Nat) (x4 : Int32) (x5 : Int32) (t0 : Int32) (t1 : Int32) (at2 : Nat) : Prop :=
  isO w at2 3 <| wp_X4_load w at2 t1 t0 fun w i_1 => isO w a2 3 <| wp_X4_thrown w a2 fun w i_2 => br (i_2 = x5) (br (x5 = 0) (aJ w a3 (0 : Int32) fun l_5 => br (i_1 = 0) (wp_L_law_b406 L xs bk23 w a1 a2 a3 x4 (0 : Int64) l_5) (wp_L_law_b406 L xs bk23 w a1 a2 a3 x4 (1 : Int64) l_5)) (wp_L_law_b412 L xs bk23 w a1 a2 a3 x4)) (False)
def wp_L_law_b345 (L : Nat) (xs : Nat → Int32) (bk23 : Hp → Nat → Nat → Nat → Int32 → Prop) (w : Hp) (a1 : Nat) (a2 : Nat) (a3 : Nat) (x4 : Int32) (t0 : Int32) (t1 : Int32) (at2 : Nat) : Prop :=
  wp_X0_load w at2 t1 t0 a3 fun w i_1 => gd (vp_in (x4 + (1 : Int32)) L) <| nm (xs (x4 + (1 : Int32)).toNatClampNeg) fun i_2 => gd (vp_in (x4 + (2 : Int32)) L) <| nm (xs (x4 + (2 : Int32)).toNatClampNeg) fun i_3 => br (i_3 = 0) (wp_L_law_b372 L xs bk23 w a1 a2 a3 x4 i_1 (0 : Int32) i_2 a2) (wp_L_law_b372 L xs bk23 w a1 a2 a3 x4 i_1 (1 : Int32) i_2 a2)
def wp_L_law_b321 (L : Nat) (xs : Nat → Int32) (bk23 : Hp → Nat → Nat → Nat → Int32 → Prop) (w : Hp) (a1 : Nat) (a2 : Nat) (a3 : Nat) (x4 : Int32) : Prop :=
  wp_L_law_b2529 L xs bk23 w a1 a2 a3 x4
def wp_L_law_b253 (L : Nat) (xs : Nat → Int32) (bk23 : Hp → Nat → Nat → Nat → Int32 → Prop) (w : Hp) (a1 : Nat) (a2 : Nat) (a3 : Nat) (x4 : Int32) : Prop :=
  wp_L_law_b2529 L xs bk23 w a1 a2 a3 x4
def wp_L_law_s23 (L : Nat) (xs : Nat → Int32)  (bk23 : Hp → Nat → Nat → Nat → Int32 → Prop) (w : Hp) (a1 : Nat) (a2 : Nat) (a3 : Nat) (x4 : Int32) : Prop :=
  br (((Int32.ofNat L) - (5 : Int32)) < x4) (True) (gd (vp_in x4 L) <| nm (xs (x4).toNatClampNeg) fun i_2 => nm (i_2 &&& (63 : Int32)) fun i_3 => br (i_3 = 0) (gd (vp_in (x4 + (1 : Int32)) L) <| nm (xs (x4 + (1 : Int32)).toNatClampNeg) fun i_4 => wp_X0_pass w a1 i_4 a3 fun w i_5 => gd (vp_in (x4 + (1 : Int32)) L) <| nm (xs (x4 + (1 : Int32)).toNatClampNeg) fun i_6 => isO w a2 3 <| wp_X4_pass w a2 i_6 fun w i_7 => isO w a2 3 <| wp_X4_thrown w a2 fun w i_8 => br (i_8 = i_5) (br (i_5 = 0) (aJ w a3 (0 : Int32) fun l_11 => br ((lg_cmp l_11 (i_7.toInt64)) = 0) (wp_L_law_b253 L xs bk23 w a1 a2 a3 x4) (False)) (wp_L_law_b253 L xs bk23 w a1 a2 a3 x4)) (False)) (br (i_3 = 1) (gd (vp_in (x4 + (1 : Int32)) L) <| nm (xs (x4 + (1 : Int32)).toNatClampNeg) fun i_14 => gd (vp_in (x4 + (2 : Int32)) L) <| nm (xs (x4 + (2 : Int32)).toNatClampNeg) fun i_15 => wp_X0_move w a1 i_14 i_15 a3 fun w i_16 => gd (vp_in (x4 + (1 : Int32)) L) <| nm (xs (x4 + (1 : Int32)).toNatClampNeg) fun i_17 => gd (vp_in (x4 + (2 : Int32)) L) <| nm (xs (x4 + (2 : Int32)).toNatClampNeg) fun i_18 => isO w a2 3 <| wp_X4_move w a2 i_17 i_18 fun w i_19 => isO w a2 3 <| wp_X4_thrown w a2 fun w i_20 => br (i_20 = i_16) (br (i_16 = 0) (aJ w a3 (0 : Int32) fun l_23 => br ((lg_cmp l_23 (i_19.toInt64)) = 0) (wp_L_law_b321 L xs bk23 w a1 a2 a3 x4) (False)) (wp_L_law_b321 L xs bk23 w a1 a2 a3 x4)) (False)) (br (i_3 = 2) (gd (vp_in (x4 + (1 : Int32)) L) <| nm (xs (x4 + (1 : Int32)).toNatClampNeg) fun i_26 => gd (vp_in (x4 + (2 : Int32)) L) <| nm (xs (x4 + (2 : Int32)).toNatClampNeg) fun i_27 => br (i_27 = 0) (wp_L_law_b345 L xs bk23 w a1 a2 a3 x4 (0 : Int32) i_26 a1) (wp_L_law_b345 L xs bk23 w a1 a2 a3 x4 (1 : Int32) i_26 a1)) (br (i_3 = 3) (gd (vp_in (x4 + (1 : Int32)) L) <| nm (xs (x4 + (1 : Int32)).toNatClampNeg) fun i_30 => gd (vp_in (x4 + (2 : Int32)) L) <| nm (xs (x4 + (2 : Int32)).toNatClampNeg) fun i_31 => gd (vp_in (x4 + (3 : Int32)) L) <| nm (xs (x4 + (3 : Int32)).toNatClampNeg) fun i_32 => gd (vp_in (x4 + (4 : Int32)) L) <| nm (xs (x4 + (4 : Int32)).toNatClampNeg) fun i_33 => wp_X0_allow w a1 i_30 i_31 i_32 i_33 a3 fun w i_34 => gd (vp_in (x4 + (1 : Int32)) L) <| nm (xs (x4 + (1 : Int32)).toNatClampNeg) fun i_35 => gd (vp_in (x4 + (2 : Int32)) L) <| nm (xs (x4 + (2 : Int32)).toNatClampNeg) fun i_36 => gd (vp_in (x4 + (3 : Int32)) L) <| nm (xs (x4 + (3 : Int32)).toNatClampNeg) fun i_37 => gd (vp_in (x4 + (4 : Int32)) L) <| nm (xs (x4 + (4 : Int32)).toNatClampNeg) fun i_38 => isO w a2 3 <| wp_X4_allow w a2 i_35 i_36 i_37 i_38 fun w i_39 => isO w a2 3 <| wp_X4_thrown w a2 fun w i_40 => br (i_40 = i_34) (br (i_34 = 0) (aJ w a3 (0 : Int32) fun l_43 => br ((lg_cmp l_43 (i_39.toInt64)) = 0) (wp_L_law_b504 L xs bk23 w a1 a2 a3 x4) (False)) (wp_L_law_b504 L xs bk23 w a1 a2 a3 x4)) (False)) (br (i_3 = 4) (gd (vp_in (x4 + (1 : Int32)) L) <| nm (xs (x4 + (1 : Int32)).toNatClampNeg) fun i_46 => gd (vp_in (x4 + (2 : Int32)) L) <| nm (xs (x4 + (2 : Int32)).toNatClampNeg) fun i_47 => gd (vp_in (x4 + (3 : Int32)) L) <| nm (xs (x4 + (3 : Int32)).toNatClampNeg) fun i_48 => wp_X0_forbid w a1 i_46 i_47 i_48 a3 fun w i_49 => gd (vp_in (x4 + (1 : Int32)) L) <| nm (xs (x4 + (1 : Int32)).toNatClampNeg) fun i_50 => gd (vp_in (x4 + (2 : Int32)) L) <| nm (xs (x4 + (2 : Int32)).toNatClampNeg) fun i_51 => gd (vp_in (x4 + (3 : Int32)) L) <| nm (xs (x4 + (3 : Int32)).toNatClampNeg) fun i_52 => isO w a2 3 <| wp_X4_forbid w a2 i_50 i_51 i_52 fun w i_53 => isO w a2 3 <| wp_X4_thrown w a2 fun w i_54 => br (i_54 = i_49) (br (i_49 = 0) (aJ w a3 (0 : Int32) fun l_57 => br ((lg_cmp l_57 (i_53.toInt64)) = 0) (wp_L_law_b584 L xs bk23 w a1 a2 a3 x4) (False)) (wp_L_law_b584 L xs bk23 w a1 a2 a3 x4)) (False)) (br (i_3 = 5) (gd (vp_in (x4 + (1 : Int32)) L) <| nm (xs (x4 + (1 : Int32)).toNatClampNeg) fun i_60 => gd (vp_in (x4 + (2 : Int32)) L) <| nm (xs (x4 + (2 : Int32)).toNatClampNeg) fun i_61 => gd (vp_in (x4 + (3 : Int32)) L) <| nm (xs (x4 + (3 : Int32)).toNatClampNeg) fun i_62 => gd (vp_in (x4 + (4 : Int32)) L) <| nm (xs (x4 + (4 : Int32)).toNatClampNeg) fun i_63 => wp_X0_send w a1 i_60 i_61 i_62 i_63 a3 fun w i_64 => gd (vp_in (x4 + (1 : Int32)) L) <| nm (xs (x4 + (1 : Int32)).toNatClampNeg) fun i_65 => gd (vp_in (x4 + (2 : Int32)) L) <| nm (xs (x4 + (2 : Int32)).toNatClampNeg) fun i_66 => gd (vp_in (x4 + (3 : Int32)) L) <| nm (xs (x4 + (3 : Int32)).toNatClampNeg) fun i_67 => gd (vp_in (x4 + (4 : Int32)) L) <| nm (xs (x4 + (4 : Int32)).toNatClampNeg) fun i_68 => isO w a2 3 <| wp_X4_send w a2 i_65 i_66 i_67 i_68 fun w i_69 => isO w a2 3 <| wp_X4_thrown w a2 fun w i_70 => br (i_70 = i_64) (br (i_64 = 0) (aJ w a3 (0 : Int32) fun l_73 => br ((lg_cmp l_73 (i_69.toInt64)) = 0) (wp_L_law_b676 L xs bk23 w a1 a2 a3 x4) (False)) (wp_L_law_b676 L xs bk23 w a1 a2 a3 x4)) (False)) (br (i_3 = 6) (gd (vp_in (x4 + (1 : Int32)) L) <| nm (xs (x4 + (1 : Int32)).toNatClampNeg) fun i_76 => gd (vp_in (x4 + (2 : Int32)) L) <| nm (xs (x4 + (2 : Int32)).toNatClampNeg) fun i_77 => wp_X0_keep w a1 i_76 i_77 a3 fun w i_78 => gd (vp_in (x4 + (1 : Int32)) L) <| nm (xs (x4 + (1 : Int32)).toNatClampNeg) fun i_79 => gd (vp_in (x4 + (2 : Int32)) L) <| nm (xs (x4 + (2 : Int32)).toNatClampNeg) fun i_80 => isO w a2 3 <| wp_X4_keep w a2 i_79 i_80 fun w i_81 => isO w a2 3 <| wp_X4_thrown w a2 fun w i_82 => br (i_82 = i_78) (br (i_78 = 0) (aJ w a3 (0 : Int32) fun l_85 => br (i_81 = 0) (wp_L_law_b745 L xs bk23 w a1 a2 a3 x4 (0 : Int64) l_85) (wp_L_law_b745 L xs bk23 w a1 a2 a3 x4 (1 : Int64) l_85)) (wp_L_law_b751 L xs bk23 w a1 a2 a3 x4)) (False)) (br (i_3 = 7) (gd (vp_in (x4 + (1 : Int32)) L) <| nm (xs (x4 + (1 : Int32)).toNatClampNeg) fun i_88 => gd (vp_in (x4 + (2 : Int32)) L) <| nm (xs (x4 + (2 : Int32)).toNatClampNeg) fun i_89 => wp_X0_greet w a1 i_88 i_89 a3 fun w i_90 => gd (vp_in (x4 + (1 : Int32)) L) <| nm (xs (x4 + (1 : Int32)).toNatClampNeg) fun i_91 => gd (vp_in (x4 + (2 : Int32)) L) <| nm (xs (x4 + (2 : Int32)).toNatClampNeg) fun i_92 => isO w a2 3 <| wp_X4_greet w a2 i_91 i_92 fun w i_93 => isO w a2 3 <| wp_X4_thrown w a2 fun w i_94 => br (i_94 = i_90) (br (i_90 = 0) (aJ w a3 (0 : Int32) fun l_97 => br ((lg_cmp l_97 (i_93.toInt64)) = 0) (wp_L_law_b819 L xs bk23 w a1 a2 a3 x4) (False)) (wp_L_law_b819 L xs bk23 w a1 a2 a3 x4)) (False)) (br (i_3 = 8) (gd (vp_in (x4 + (1 : Int32)) L) <| nm (xs (x4 + (1 : Int32)).toNatClampNeg) fun i_100 => wp_X0_deliver w a1 i_100 a3 fun w i_101 => gd (vp_in (x4 + (1 : Int32)) L) <| nm (xs (x4 + (1 : Int32)).toNatClampNeg) fun i_102 => isO w a2 3 <| wp_X4_deliver w a2 i_102 fun w i_103 => isO w a2 3 <| wp_X4_thrown w a2 fun w i_104 => br (i_104 = i_101) (br (i_101 = 0) (aJ w a3 (0 : Int32) fun l_107 => br ((lg_cmp l_107 (i_103.toInt64)) = 0) (wp_L_law_b875 L xs bk23 w a1 a2 a3 x4) (False)) (wp_L_law_b875 L xs bk23 w a1 a2 a3 x4)) (False)) (br (i_3 = 9) (gd (vp_in (x4 + (1 : Int32)) L) <| nm (xs (x4 + (1 : Int32)).toNatClampNeg) fun i_110 => wp_X0_lose w a1 i_110 a3 fun w i_111 => gd (vp_in (x4 + (1 : Int32)) L) <| nm (xs (x4 + (1 : Int32)).toNatClampNeg) fun i_112 => isO w a2 3 <| wp_X4_lose w a2 i_112 fun w i_113 => isO w a2 3 <| wp_X4_thrown w a2 fun w i_114 => br (i_114 = i_111) (br (i_111 = 0) (aJ w a3 (0 : Int32) fun l_117 => br ((lg_cmp l_117 (i_113.toInt64)) = 0) (wp_L_law_b931 L xs bk23 w a1 a2 a3 x4) (False)) (wp_L_law_b931 L xs bk23 w a1 a2 a3 x4)) (False)) (br (i_3 = 10) (gd (vp_in (x4 + (1 : Int32)) L) <| nm (xs (x4 + (1 : Int32)).toNatClampNeg) fun i_120 => wp_X0_twice w a1 i_120 a3 fun w i_121 => gd (vp_in (x4 + (1 : Int32)) L) <| nm (xs (x4 + (1 : Int32)).toNatClampNeg) fun i_122 => isO w a2 3 <| wp_X4_twice w a2 i_122 fun w i_123 => isO w a2 3 <| wp_X4_thrown w a2 fun w i_124 => br (i_124 = i_121) (br (i_121 = 0) (aJ w a3 (0 : Int32) fun l_127 => br ((lg_cmp l_127 (i_123.toInt64)) = 0) (wp_L_law_b987 L xs bk23 w a1 a2 a3 x4) (False)) (wp_L_law_b987 L xs bk23 w a1 a2 a3 x4)) (False)) (br (i_3 = 11) (gd (vp_in (x4 + (1 : Int32)) L) <| nm (xs (x4 + (1 : Int32)).toNatClampNeg) fun i_130 => gd (vp_in (x4 + (2 : Int32)) L) <| nm (xs (x4 + (2 : Int32)).toNatClampNeg) fun i_131 => gd (vp_in (x4 + (3 : Int32)) L) <| nm (xs (x4 + (3 : Int32)).toNatClampNeg) fun i_132 => wp_X0_turn w a1 i_130 i_131 i_132 a3 fun w i_133 => gd (vp_in (x4 + (1 : Int32)) L) <| nm (xs (x4 + (1 : Int32)).toNatClampNeg) fun i_134 => gd (vp_in (x4 + (2 : Int32)) L) <| nm (xs (x4 + (2 : Int32)).toNatClampNeg) fun i_135 => gd (vp_in (x4 + (3 : Int32)) L) <| nm (xs (x4 + (3 : Int32)).toNatClampNeg) fun i_136 => isO w a2 3 <| wp_X4_turn w a2 i_134 i_135 i_136 fun w i_137 => isO w a2 3 <| wp_X4_thrown w a2 fun w i_138 => br (i_138 = i_133) (br (i_133 = 0) (aJ w a3 (0 : Int32) fun l_141 => br ((lg_cmp l_141 (i_137.toInt64)) = 0) (wp_L_law_b1067 L xs bk23 w a1 a2 a3 x4) (False)) (wp_L_law_b1067 L xs bk23 w a1 a2 a3 x4)) (False)) (br (i_3 = 12) (gd (vp_in (x4 + (1 : Int32)) L) <| nm (xs (x4 + (1 : Int32)).toNatClampNeg) fun i_144 => gd (vp_in (x4 + (2 : Int32)) L) <| nm (xs (x4 + (2 : Int32)).toNatClampNeg) fun i_145 => wp_X0_reroute w a1 i_144 i_145 a3 fun w i_146 => gd (vp_in (x4 + (1 : Int32)) L) <| nm (xs (x4 + (1 : Int32)).toNatClampNeg) fun i_147 => gd (vp_in (x4 + (2 : Int32)) L) <| nm (xs (x4 + (2 : Int32)).toNatClampNeg) fun i_148 => isO w a2 3 <| wp_X4_reroute w a2 i_147 i_148 fun w i_149 => isO w a2 3 <| wp_X4_thrown w a2 fun w i_150 => br (i_150 = i_146) (br (i_146 = 0) (aJ w a3 (0 : Int32) fun l_153 => br ((lg_cmp l_153 (i_149.toInt64)) = 0) (wp_L_law_b1135 L xs bk23 w a1 a2 a3 x4) (False)) (wp_L_law_b1135 L xs bk23 w a1 a2 a3 x4)) (False)) (br (i_3 = 13) (gd (vp_in (x4 + (1 : Int32)) L) <| nm (xs (x4 + (1 : Int32)).toNatClampNeg) fun i_156 => wp_X0_later w a1 i_156 a3 fun w i_157 => gd (vp_in (x4 + (1 : Int32)) L) <| nm (xs (x4 + (1 : Int32)).toNatClampNeg) fun i_158 => isO w a2 3 <| wp_X4_later w a2 i_158 fun w i_159 => isO w a2 3 <| wp_X4_thrown w a2 fun w i_160 => br (i_160 = i_157) (br (i_157 = 0) (aJ w a3 (0 : Int32) fun l_163 => br ((lg_cmp l_163 (i_159.toInt64)) = 0) (wp_L_law_b1191 L xs bk23 w a1 a2 a3 x4) (False)) (wp_L_law_b1191 L xs bk23 w a1 a2 a3 x4)) (False)) (br (i_3 = 14) (isO w a1 0 <| wp_X1_now w a1 fun w i_166 => isO w a2 3 <| wp_X4_now w a2 fun w i_167 => br (i_166 = i_167) (wp_L_law_b2529 L xs bk23 w a1 a2 a3 x4) (False)) (br (i_3 = 15) (isO w a1 0 <| wp_X1_letters w a1 fun w i_170 => isO w a2 3 <| wp_X4_letters w a2 fun w i_171 => br (i_170 = i_171) (wp_L_law_b2529 L xs bk23 w a1 a2 a3 x4) (False)) (br (i_3 = 16) (gd (vp_in (x4 + (1 : Int32)) L) <| nm (xs (x4 + (1 : Int32)).toNatClampNeg) fun i_174 => gd (vp_in (x4 + (2 : Int32)) L) <| nm (xs (x4 + (2 : Int32)).toNatClampNeg) fun i_175 => wp_X0_letter w a1 i_174 i_175 a3 fun w i_176 => gd (vp_in (x4 + (1 : Int32)) L) <| nm (xs (x4 + (1 : Int32)).toNatClampNeg) fun i_177 => gd (vp_in (x4 + (2 : Int32)) L) <| nm (xs (x4 + (2 : Int32)).toNatClampNeg) fun i_178 => isO w a2 3 <| wp_X4_letter w a2 i_177 i_178 fun w i_179 => isO w a2 3 <| wp_X4_thrown w a2 fun w i_180 => br (i_180 = i_176) (br (i_176 = 0) (aJ w a3 (0 : Int32) fun l_183 => br ((lg_cmp l_183 (i_179.toInt64)) = 0) (wp_L_law_b1285 L xs bk23 w a1 a2 a3 x4) (False)) (wp_L_law_b1285 L xs bk23 w a1 a2 a3 x4)) (False)) (br (i_3 = 17) (gd (vp_in (x4 + (1 : Int32)) L) <| nm (xs (x4 + (1 : Int32)).toNatClampNeg) fun i_186 => wp_X0_isTurned w a1 i_186 a3 fun w i_187 => gd (vp_in (x4 + (1 : Int32)) L) <| nm (xs (x4 + (1 : Int32)).toNatClampNeg) fun i_188 => isO w a2 3 <| wp_X4_isTurned w a2 i_188 fun w i_189 => isO w a2 3 <| wp_X4_thrown w a2 fun w i_190 => br (i_190 = i_187) (br (i_187 = 0) (aJ w a3 (0 : Int32) fun l_193 => br (i_189 = 0) (wp_L_law_b1342 L xs bk23 w a1 a2 a3 x4 (0 : Int64) l_193) (wp_L_law_b1342 L xs bk23 w a1 a2 a3 x4 (1 : Int64) l_193)) (wp_L_law_b1348 L xs bk23 w a1 a2 a3 x4)) (False)) (br (i_3 = 18) (gd (vp_in (x4 + (1 : Int32)) L) <| nm (xs (x4 + (1 : Int32)).toNatClampNeg) fun i_196 => wp_X0_address w a1 i_196 a3 fun w i_197 => gd (vp_in (x4 + (1 : Int32)) L) <| nm (xs (x4 + (1 : Int32)).toNatClampNeg) fun i_198 => isO w a2 3 <| wp_X4_address w a2 i_198 fun w i_199 => isO w a2 3 <| wp_X4_thrown w a2 fun w i_200 => br (i_200 = i_197) (br (i_197 = 0) (aJ w a3 (0 : Int32) fun l_203 => br ((lg_cmp l_203 (i_199.toInt64)) = 0) (wp_L_law_b1404 L xs bk23 w a1 a2 a3 x4) (False)) (wp_L_law_b1404 L xs bk23 w a1 a2 a3 x4)) (False)) (br (i_3 = 19) (gd (vp_in (x4 + (1 : Int32)) L) <| nm (xs (x4 + (1 : Int32)).toNatClampNeg) fun i_206 => gd (vp_in (x4 + (2 : Int32)) L) <| nm (xs (x4 + (2 : Int32)).toNatClampNeg) fun i_207 => wp_X0_known w a1 i_206 i_207 a3 fun w i_208 => gd (vp_in (x4 + (1 : Int32)) L) <| nm (xs (x4 + (1 : Int32)).toNatClampNeg) fun i_209 => gd (vp_in (x4 + (2 : Int32)) L) <| nm (xs (x4 + (2 : Int32)).toNatClampNeg) fun i_210 => isO w a2 3 <| wp_X4_known w a2 i_209 i_210 fun w i_211 => isO w a2 3 <| wp_X4_thrown w a2 fun w i_212 => br (i_212 = i_208) (br (i_208 = 0) (aJ w a3 (0 : Int32) fun l_215 => br ((lg_cmp l_215 (i_211.toInt64)) = 0) (wp_L_law_b1472 L xs bk23 w a1 a2 a3 x4) (False)) (wp_L_law_b1472 L xs bk23 w a1 a2 a3 x4)) (False)) (br (i_3 = 20) (gd (vp_in (x4 + (1 : Int32)) L) <| nm (xs (x4 + (1 : Int32)).toNatClampNeg) fun i_218 => gd (vp_in (x4 + (2 : Int32)) L) <| nm (xs (x4 + (2 : Int32)).toNatClampNeg) fun i_219 => wp_X0_route w a1 i_218 i_219 a3 fun w i_220 => gd (vp_in (x4 + (1 : Int32)) L) <| nm (xs (x4 + (1 : Int32)).toNatClampNeg) fun i_221 => gd (vp_in (x4 + (2 : Int32)) L) <| nm (xs (x4 + (2 : Int32)).toNatClampNeg) fun i_222 => isO w a2 3 <| wp_X4_route w a2 i_221 i_222 fun w i_223 => isO w a2 3 <| wp_X4_thrown w a2 fun w i_224 => br (i_224 = i_220) (br (i_220 = 0) (aJ w a3 (0 : Int32) fun l_227 => br ((lg_cmp l_227 (i_223.toInt64)) = 0) (wp_L_law_b1540 L xs bk23 w a1 a2 a3 x4) (False)) (wp_L_law_b1540 L xs bk23 w a1 a2 a3 x4)) (False)) (br (i_3 = 21) (gd (vp_in (x4 + (1 : Int32)) L) <| nm (xs (x4 + (1 : Int32)).toNatClampNeg) fun i_230 => gd (vp_in (x4 + (2 : Int32)) L) <| nm (xs (x4 + (2 : Int32)).toNatClampNeg) fun i_231 => gd (vp_in (x4 + (3 : Int32)) L) <| nm (xs (x4 + (3 : Int32)).toNatClampNeg) fun i_232 => gd (vp_in (x4 + (4 : Int32)) L) <| nm (xs (x4 + (4 : Int32)).toNatClampNeg) fun i_233 => wp_X0_session w a1 i_230 i_231 i_232 i_233 a3 fun w i_234 => gd (vp_in (x4 + (1 : Int32)) L) <| nm (xs (x4 + (1 : Int32)).toNatClampNeg) fun i_235 => gd (vp_in (x4 + (2 : Int32)) L) <| nm (xs (x4 + (2 : Int32)).toNatClampNeg) fun i_236 => gd (vp_in (x4 + (3 : Int32)) L) <| nm (xs (x4 + (3 : Int32)).toNatClampNeg) fun i_237 => gd (vp_in (x4 + (4 : Int32)) L) <| nm (xs (x4 + (4 : Int32)).toNatClampNeg) fun i_238 => isO w a2 3 <| wp_X4_session w a2 i_235 i_236 i_237 i_238 fun w i_239 => isO w a2 3 <| wp_X4_thrown w a2 fun w i_240 => br (i_240 = i_234) (br (i_234 = 0) (aJ w a3 (0 : Int32) fun l_243 => br ((lg_cmp l_243 (i_239.toInt64)) = 0) (wp_L_law_b1632 L xs bk23 w a1 a2 a3 x4) (False)) (wp_L_law_b1632 L xs bk23 w a1 a2 a3 x4)) (False)) (br (i_3 = 22) (gd (vp_in (x4 + (1 : Int32)) L) <| nm (xs (x4 + (1 : Int32)).toNatClampNeg) fun i_246 => gd (vp_in (x4 + (2 : Int32)) L) <| nm (xs (x4 + (2 : Int32)).toNatClampNeg) fun i_247 => wp_X0_isUsable w a1 i_246 i_247 a3 fun w i_248 => gd (vp_in (x4 + (1 : Int32)) L) <| nm (xs (x4 + (1 : Int32)).toNatClampNeg) fun i_249 => gd (vp_in (x4 + (2 : Int32)) L) <| nm (xs (x4 + (2 : Int32)).toNatClampNeg) fun i_250 => isO w a2 3 <| wp_X4_isUsable w a2 i_249 i_250 fun w i_251 => isO w a2 3 <| wp_X4_thrown w a2 fun w i_252 => br (i_252 = i_248) (br (i_248 = 0) (aJ w a3 (0 : Int32) fun l_255 => br (i_251 = 0) (wp_L_law_b1701 L xs bk23 w a1 a2 a3 x4 (0 : Int64) l_255) (wp_L_law_b1701 L xs bk23 w a1 a2 a3 x4 (1 : Int64) l_255)) (wp_L_law_b1707 L xs bk23 w a1 a2 a3 x4)) (False)) (br (i_3 = 23) (gd (vp_in (x4 + (1 : Int32)) L) <| nm (xs (x4 + (1 : Int32)).toNatClampNeg) fun i_258 => gd (vp_in (x4 + (2 : Int32)) L) <| nm (xs (x4 + (2 : Int32)).toNatClampNeg) fun i_259 => wp_X0_flight w a1 i_258 i_259 a3 fun w i_260 => gd (vp_in (x4 + (1 : Int32)) L) <| nm (xs (x4 + (1 : Int32)).toNatClampNeg) fun i_261 => gd (vp_in (x4 + (2 : Int32)) L) <| nm (xs (x4 + (2 : Int32)).toNatClampNeg) fun i_262 => isO w a2 3 <| wp_X4_flight w a2 i_261 i_262 fun w i_263 => isO w a2 3 <| wp_X4_thrown w a2 fun w i_264 => br (i_264 = i_260) (br (i_260 = 0) (aJ w a3 (0 : Int32) fun l_267 => br ((lg_cmp l_267 (i_263.toInt64)) = 0) (wp_L_law_b1775 L xs bk23 w a1 a2 a3 x4) (False)) (wp_L_law_b1775 L xs bk23 w a1 a2 a3 x4)) (False)) (br (i_3 = 24) (gd (vp_in (x4 + (1 : Int32)) L) <| nm (xs (x4 + (1 : Int32)).toNatClampNeg) fun i_270 => gd (vp_in (x4 + (2 : Int32)) L) <| nm (xs (x4 + (2 : Int32)).toNatClampNeg) fun i_271 => wp_X0_waiting w a1 i_270 i_271 a3 fun w i_272 => gd (vp_in (x4 + (1 : Int32)) L) <| nm (xs (x4 + (1 : Int32)).toNatClampNeg) fun i_273 => gd (vp_in (x4 + (2 : Int32)) L) <| nm (xs (x4 + (2 : Int32)).toNatClampNeg) fun i_274 => isO w a2 3 <| wp_X4_waiting w a2 i_273 i_274 fun w i_275 => isO w a2 3 <| wp_X4_thrown w a2 fun w i_276 => br (i_276 = i_272) (br (i_272 = 0) (aJ w a3 (0 : Int32) fun l_279 => br ((lg_cmp l_279 (i_275.toInt64)) = 0) (wp_L_law_b1843 L xs bk23 w a1 a2 a3 x4) (False)) (wp_L_law_b1843 L xs bk23 w a1 a2 a3 x4)) (False)) (br (i_3 = 25) (gd (vp_in (x4 + (1 : Int32)) L) <| nm (xs (x4 + (1 : Int32)).toNatClampNeg) fun i_282 => gd (vp_in (x4 + (2 : Int32)) L) <| nm (xs (x4 + (2 : Int32)).toNatClampNeg) fun i_283 => wp_X0_cookie w a1 i_282 i_283 a3 fun w i_284 => gd (vp_in (x4 + (1 : Int32)) L) <| nm (xs (x4 + (1 : Int32)).toNatClampNeg) fun i_285 => gd (vp_in (x4 + (2 : Int32)) L) <| nm (xs (x4 + (2 : Int32)).toNatClampNeg) fun i_286 => isO w a2 3 <| wp_X4_cookie w a2 i_285 i_286 fun w i_287 => isO w a2 3 <| wp_X4_thrown w a2 fun w i_288 => br (i_288 = i_284) (br (i_284 = 0) (aJ w a3 (0 : Int32) fun l_291 => br ((lg_cmp l_291 (i_287.toInt64)) = 0) (wp_L_law_b1911 L xs bk23 w a1 a2 a3 x4) (False)) (wp_L_law_b1911 L xs bk23 w a1 a2 a3 x4)) (False)) (br (i_3 = 26) (gd (vp_in (x4 + (1 : Int32)) L) <| nm (xs (x4 + (1 : Int32)).toNatClampNeg) fun i_294 => gd (vp_in (x4 + (2 : Int32)) L) <| nm (xs (x4 + (2 : Int32)).toNatClampNeg) fun i_295 => gd (vp_in (x4 + (3 : Int32)) L) <| nm (xs (x4 + (3 : Int32)).toNatClampNeg) fun i_296 => br (i_296 = 0) (wp_L_law_b1941 L xs bk23 w a1 a2 a3 x4 (0 : Int32) i_295 i_294 a1) (wp_L_law_b1941 L xs bk23 w a1 a2 a3 x4 (1 : Int32) i_295 i_294 a1)) (br (i_3 = 27) (gd (vp_in (x4 + (1 : Int32)) L) <| nm (xs (x4 + (1 : Int32)).toNatClampNeg) fun i_299 => wp_X0_outs w a1 i_299 a3 fun w i_300 => gd (vp_in (x4 + (1 : Int32)) L) <| nm (xs (x4 + (1 : Int32)).toNatClampNeg) fun i_301 => isO w a2 3 <| wp_X4_outs w a2 i_301 fun w i_302 => isO w a2 3 <| wp_X4_thrown w a2 fun w i_303 => br (i_303 = i_300) (br (i_300 = 0) (aJ w a3 (0 : Int32) fun l_306 => br ((lg_cmp l_306 (i_302.toInt64)) = 0) (wp_L_law_b2063 L xs bk23 w a1 a2 a3 x4) (False)) (wp_L_law_b2063 L xs bk23 w a1 a2 a3 x4)) (False)) (br (i_3 = 28) (gd (vp_in (x4 + (1 : Int32)) L) <| nm (xs (x4 + (1 : Int32)).toNatClampNeg) fun i_309 => gd (vp_in (x4 + (2 : Int32)) L) <| nm (xs (x4 + (2 : Int32)).toNatClampNeg) fun i_310 => gd (vp_in (x4 + (3 : Int32)) L) <| nm (xs (x4 + (3 : Int32)).toNatClampNeg) fun i_311 => wp_X0_out w a1 i_309 i_310 i_311 a3 fun w i_312 => gd (vp_in (x4 + (1 : Int32)) L) <| nm (xs (x4 + (1 : Int32)).toNatClampNeg) fun i_313 => gd (vp_in (x4 + (2 : Int32)) L) <| nm (xs (x4 + (2 : Int32)).toNatClampNeg) fun i_314 => gd (vp_in (x4 + (3 : Int32)) L) <| nm (xs (x4 + (3 : Int32)).toNatClampNeg) fun i_315 => isO w a2 3 <| wp_X4_out w a2 i_313 i_314 i_315 fun w i_316 => isO w a2 3 <| wp_X4_thrown w a2 fun w i_317 => br (i_317 = i_312) (br (i_312 = 0) (aJ w a3 (0 : Int32) fun l_320 => br ((lg_cmp l_320 (i_316.toInt64)) = 0) (wp_L_law_b2143 L xs bk23 w a1 a2 a3 x4) (False)) (wp_L_law_b2143 L xs bk23 w a1 a2 a3 x4)) (False)) (br (i_3 = 29) (gd (vp_in (x4 + (1 : Int32)) L) <| nm (xs (x4 + (1 : Int32)).toNatClampNeg) fun i_323 => wp_X0_drops w a1 i_323 a3 fun w i_324 => gd (vp_in (x4 + (1 : Int32)) L) <| nm (xs (x4 + (1 : Int32)).toNatClampNeg) fun i_325 => isO w a2 3 <| wp_X4_drops w a2 i_325 fun w i_326 => isO w a2 3 <| wp_X4_thrown w a2 fun w i_327 => br (i_327 = i_324) (br (i_324 = 0) (aJ w a3 (0 : Int32) fun l_330 => br ((lg_cmp l_330 (i_326.toInt64)) = 0) (wp_L_law_b2199 L xs bk23 w a1 a2 a3 x4) (False)) (wp_L_law_b2199 L xs bk23 w a1 a2 a3 x4)) (False)) (br (i_3 = 30) (gd (vp_in (x4 + (1 : Int32)) L) <| nm (xs (x4 + (1 : Int32)).toNatClampNeg) fun i_333 => wp_X0_publicOf w a1 i_333 a3 fun w i_334 => gd (vp_in (x4 + (1 : Int32)) L) <| nm (xs (x4 + (1 : Int32)).toNatClampNeg) fun i_335 => isO w a2 3 <| wp_X4_publicOf w a2 i_335 fun w i_336 => isO w a2 3 <| wp_X4_thrown w a2 fun w i_337 => br (i_337 = i_334) (br (i_334 = 0) (aJ w a3 (0 : Int32) fun l_340 => br ((lg_cmp l_340 (i_336.toInt64)) = 0) (wp_L_law_b2255 L xs bk23 w a1 a2 a3 x4) (False)) (wp_L_law_b2255 L xs bk23 w a1 a2 a3 x4)) (False)) (br (i_3 = 31) (gd (vp_in (x4 + (1 : Int32)) L) <| nm (xs (x4 + (1 : Int32)).toNatClampNeg) fun i_343 => gd (vp_in (x4 + (2 : Int32)) L) <| nm (xs (x4 + (2 : Int32)).toNatClampNeg) fun i_344 => wp_X0_shared w a1 i_343 i_344 a3 fun w i_345 => gd (vp_in (x4 + (1 : Int32)) L) <| nm (xs (x4 + (1 : Int32)).toNatClampNeg) fun i_346 => gd (vp_in (x4 + (2 : Int32)) L) <| nm (xs (x4 + (2 : Int32)).toNatClampNeg) fun i_347 => isO w a2 3 <| wp_X4_shared w a2 i_346 i_347 fun w i_348 => isO w a2 3 <| wp_X4_thrown w a2 fun w i_349 => br (i_349 = i_345) (br (i_345 = 0) (aJ w a3 (0 : Int32) fun l_352 => br ((lg_cmp l_352 (i_348.toInt64)) = 0) (wp_L_law_b2323 L xs bk23 w a1 a2 a3 x4) (False)) (wp_L_law_b2323 L xs bk23 w a1 a2 a3 x4)) (False)) (br (i_3 = 32) (gd (vp_in (x4 + (1 : Int32)) L) <| nm (xs (x4 + (1 : Int32)).toNatClampNeg) fun i_355 => gd (vp_in (x4 + (2 : Int32)) L) <| nm (xs (x4 + (2 : Int32)).toNatClampNeg) fun i_356 => gd (vp_in (x4 + (3 : Int32)) L) <| nm (xs (x4 + (3 : Int32)).toNatClampNeg) fun i_357 => gd (vp_in (x4 + (4 : Int32)) L) <| nm (xs (x4 + (4 : Int32)).toNatClampNeg) fun i_358 => wp_X0_seal w a1 i_355 i_356 i_357 i_358 a3 fun w i_359 => gd (vp_in (x4 + (1 : Int32)) L) <| nm (xs (x4 + (1 : Int32)).toNatClampNeg) fun i_360 => gd (vp_in (x4 + (2 : Int32)) L) <| nm (xs (x4 + (2 : Int32)).toNatClampNeg) fun i_361 => gd (vp_in (x4 + (3 : Int32)) L) <| nm (xs (x4 + (3 : Int32)).toNatClampNeg) fun i_362 => gd (vp_in (x4 + (4 : Int32)) L) <| nm (xs (x4 + (4 : Int32)).toNatClampNeg) fun i_363 => isO w a2 3 <| wp_X4_seal w a2 i_360 i_361 i_362 i_363 fun w i_364 => isO w a2 3 <| wp_X4_thrown w a2 fun w i_365 => br (i_365 = i_359) (br (i_359 = 0) (aJ w a3 (0 : Int32) fun l_368 => br ((lg_cmp l_368 (i_364.toInt64)) = 0) (wp_L_law_b2415 L xs bk23 w a1 a2 a3 x4) (False)) (wp_L_law_b2415 L xs bk23 w a1 a2 a3 x4)) (False)) (br (i_3 = 33) (isO w a1 0 <| wp_X1_share w a1 fun w f_371 => gd (vf_n64 (FP.f2d f_371)) <| isO w a2 3 <| wp_X4_share w a2 fun w f_372 => gd (vf_n64 (FP.f2d f_372)) <| br ((Op.cmpValue (FP.dcmp (FP.f2d f_371) (FP.f2d f_372)) .l) = 0) (wp_L_law_b2458 L xs bk23 w a1 a2 a3 x4) (br ((Op.cmpValue (FP.dcmp (FP.f2d f_371) (FP.f2d f_371)) .l) = 0) (False) (br ((Op.cmpValue (FP.dcmp (FP.f2d f_372) (FP.f2d f_372)) .l) = 0) (False) (wp_L_law_b2458 L xs bk23 w a1 a2 a3 x4)))) (br (i_3 = 34) (isO w a1 0 <| wp_X1_meanAge w a1 fun w d_377 => isO w a2 3 <| wp_X4_meanAge w a2 fun w d_378 => br ((Op.cmpValue (FP.dcmp d_377 d_378) .l) = 0) (wp_L_law_b2499 L xs bk23 w a1 a2 a3 x4) (br ((Op.cmpValue (FP.dcmp d_377 d_377) .l) = 0) (False) (br ((Op.cmpValue (FP.dcmp d_378 d_378) .l) = 0) (False) (wp_L_law_b2499 L xs bk23 w a1 a2 a3 x4)))) (br (i_3 = 35) (isO w a1 0 <| wp_X1_isSound w a1 fun w i_383 => isO w a2 3 <| wp_X4_isSound w a2 fun w i_384 => br (i_383 = i_384) (wp_L_law_b2529 L xs bk23 w a1 a2 a3 x4) (False)) (br (i_3 = 36) (isO w a1 0 <| wp_X1_checksum w a1 fun w l_387 => isO w a2 3 <| wp_X4_checksum w a2 fun w l_388 => br ((lg_cmp l_387 l_388) = 0) (wp_L_law_b2529 L xs bk23 w a1 a2 a3 x4) (False)) (wp_L_law_b2529 L xs bk23 w a1 a2 a3 x4))))))))))))))))))))))))))))))))))))))
def wp_L_law_l23 (L : Nat) (xs : Nat → Int32)  : ((Hp × Nat × Nat × Nat × Int32) → Prop) → (Hp × Nat × Nat × Nat × Int32) → Prop := fun bk q => wp_L_law_s23 L xs  (fun w a1 a2 a3 x4 => bk (w, a1, a2, a3, x4)) q.1 q.2.1 q.2.2.1 q.2.2.2.1 q.2.2.2.2
def wp_L_law_b23 (L : Nat) (xs : Nat → Int32)  (w : Hp) (a1 : Nat) (a2 : Nat) (a3 : Nat) (x4 : Int32) : Prop := lpN (wp_L_law_l23 L xs ) 25 (w, a1, a2, a3, x4)
def wp_L_law (L : Nat) (xs : Nat → Int32) (w : Hp) : Prop :=
  nO w 0 fsX1 fun w b_1 => wp_X1_init w b_1 fun w => nO w 3 fsX4 fun w b_2 => wp_X4_init w b_2 fun w => nJ_ w (1 : Int32) 1 fun w b_3 => wp_L_law_b23 L xs w b_1 b_2 b_3 (0 : Int32)
set_option maxHeartbeats 40000000 in
set_option maxRecDepth 100000 in
theorem wk_L_law (l : Launch) (hst : l.stackTraces = false) {p : Program} {e : Env} {s : State} {m : MethodId} {args : Array Value} {below : List Frame} {meth : Method} {c : Code} {Q : State → Prop} {G : hG} {w : Hp} {b L : Nat} {xs : Nat → Int32} (C0 : CallFix p m c cL_law 9 s args lw_all RX0) (hU : hx_U G s) (hH : hx_H G w s s.heap []) (hX : va_X b L xs s s.heap) (hbl : b < s.heap.size) (hbA : ¬ hx_A G b) (kend : ∀ (pc : Nat) (w : Hp) (H : Heap) (locs : List Loc) (cells slots : Nat) (ls : Array Slot), cells ≤ 1200144 → slots ≤ 5497210 → hx_H G w s H locs → decode cL_law pc = .ok (.ireturn, 1) → W p l e room_1 s m args below meth c H locs cells slots Q (F0 m pc ls [.int 1])) (h : wp_L_law L xs w) (ls : Array Slot) (hl : lv_has ls 9 [(0, va_rf (some b))]) : W p l e room_1 s m args below meth c s.heap [] 0 0 Q (F0 m 0 ls []) := by
  have hx := C0.1
  have hb := C0.2.1
  have hts := C0.2.2.2.2
  have L23 : ∀ (n23 cl23 sl23 : Nat), cl23 + n23 * 150 ≤ 4147 → sl23 + n23 * 16853 ≤ 425800 → ∀ (w : Hp) (a1 : Nat) (a2 : Nat) (a3 : Nat) (x4 : Int32), lpN (wp_L_law_l23 L xs ) n23 (w, a1, a2, a3, x4) → ∀ (H : Heap) (locs : List Loc) (ls : Array Slot), hx_H G w s H locs → lv_has ls 9 [(0, va_rf (some b)), (1, va_rf (some a1)), (2, va_rf (some a2)), (3, va_rf (some a3)), (4, .int x4)] → W p l e room_1 s m args below meth c H locs (cl23 + 0) (sl23 + 0) Q (F0 m 23 ls []) := by
    intro n23
    induction n23 with
    | zero => intro cl23 sl23 _ _ w a1 a2 a3 x4 h; exact h.elim
    | succ n23 ih23 =>
      intro cl23 sl23 hcl23 hsl23 w a1 a2 a3 x4 h H locs ls hH hl
      have h : wp_L_law_s23 L xs  (fun w a1 a2 a3 x4 => lpN (wp_L_law_l23 L xs ) n23 (w, a1, a2, a3, x4)) w a1 a2 a3 x4 := h
      have b2529 : ∀ (w : Hp) (a1 : Nat) (a2 : Nat) (a3 : Nat) (x4 : Int32), wp_L_law_b2529 L xs (fun w a1 a2 a3 x4 => lpN (wp_L_law_l23 L xs ) n23 (w, a1, a2, a3, x4)) w a1 a2 a3 x4 → ∀ (H : Heap) (locs : List Loc) (ls : Array Slot), hx_H G w s H locs → lv_has ls 9 [(0, va_rf (some b)), (1, va_rf (some a1)), (2, va_rf (some a2)), (3, va_rf (some a3)), (4, .int x4)] → W p l e room_1 s m args below meth c H locs (cl23 + 150) (sl23 + 16853) Q (F0 m 2529 ls []) := by
        intro w a1 a2 a3 x4 h H locs ls hH hl
        obtain ⟨i_1, ei_1⟩ : ∃ z, z = x4 + 5 := ⟨_, rfl⟩
        have h := h i_1 ei_1
        refine lv_iinc (k := 4) hx hb dL_law_2529 hl rfl (v := i_1) (by rw [ei_1]; rfl) (by decide) (lv' := [(4, .int i_1), (0, va_rf (some b)), (1, va_rf (some a1)), (2, va_rf (some a2)), (3, va_rf (some a3))]) rfl (fun ls hl => ?_)
        refine lv_goto hx hb dL_law_2532 (tgt := 23) (by decide) ?_
        refine W.widen (k := cl23 + 150) (n := sl23 + 16853) (by omega) (by omega) ?_
        exact ih23 _ _ (by omega) (by omega) _ _ _ _ _ h _ _ _ hH (lv_sub hl [1, 2, 3, 4, 0] rfl)
      have b2499 : ∀ (w : Hp) (a1 : Nat) (a2 : Nat) (a3 : Nat) (x4 : Int32), wp_L_law_b2499 L xs (fun w a1 a2 a3 x4 => lpN (wp_L_law_l23 L xs ) n23 (w, a1, a2, a3, x4)) w a1 a2 a3 x4 → ∀ (H : Heap) (locs : List Loc) (ls : Array Slot), hx_H G w s H locs → lv_has ls 9 [(0, va_rf (some b)), (1, va_rf (some a1)), (2, va_rf (some a2)), (3, va_rf (some a3)), (4, .int x4)] → W p l e room_1 s m args below meth c H locs (cl23 + 0) (sl23 + 0) Q (F0 m 2499 ls []) := by
        intro w a1 a2 a3 x4 h H locs ls hH hl
        refine lv_goto hx hb dL_law_2499 (tgt := 2529) (by decide) ?_
        refine W.widen (k := cl23 + 150) (n := sl23 + 16853) (by omega) (by omega) ?_
        exact b2529 _ _ _ _ _ h _ _ _ hH (lv_sub hl [0, 1, 2, 3, 4] rfl)
      have b2458 : ∀ (w : Hp) (a1 : Nat) (a2 : Nat) (a3 : Nat) (x4 : Int32), wp_L_law_b2458 L xs (fun w a1 a2 a3 x4 => lpN (wp_L_law_l23 L xs ) n23 (w, a1, a2, a3, x4)) w a1 a2 a3 x4 → ∀ (H : Heap) (locs : List Loc) (ls : Array Slot), hx_H G w s H locs → lv_has ls 9 [(0, va_rf (some b)), (1, va_rf (some a1)), (2, va_rf (some a2)), (3, va_rf (some a3)), (4, .int x4)] → W p l e room_1 s m args below meth c H locs (cl23 + 0) (sl23 + 0) Q (F0 m 2458 ls []) := by
        intro w a1 a2 a3 x4 h H locs ls hH hl
        refine lv_goto hx hb dL_law_2458 (tgt := 2529) (by decide) ?_
        refine W.widen (k := cl23 + 150) (n := sl23 + 16853) (by omega) (by omega) ?_
        exact b2529 _ _ _ _ _ h _ _ _ hH (lv_sub hl [0, 1, 2, 3, 4] rfl)
      have b2415 : ∀ (w : Hp) (a1 : Nat) (a2 : Nat) (a3 : Nat) (x4 : Int32), wp_L_law_b2415 L xs (fun w a1 a2 a3 x4 => lpN (wp_L_law_l23 L xs ) n23 (w, a1, a2, a3, x4)) w a1 a2 a3 x4 → ∀ (H : Heap) (locs : List Loc) (ls : Array Slot), hx_H G w s H locs → lv_has ls 9 [(0, va_rf (some b)), (1, va_rf (some a1)), (2, va_rf (some a2)), (3, va_rf (some a3)), (4, .int x4)] → W p l e room_1 s m args below meth c H locs (cl23 + 2) (sl23 + 9) Q (F0 m 2415 ls []) := by
        intro w a1 a2 a3 x4 h H locs ls hH hl
        refine lv_goto hx hb dL_law_2415 (tgt := 2529) (by decide) ?_
        refine W.widen (k := cl23 + 150) (n := sl23 + 16853) (by omega) (by omega) ?_
        exact b2529 _ _ _ _ _ h _ _ _ hH (lv_sub hl [0, 1, 2, 3, 4] rfl)
      have b2323 : ∀ (w : Hp) (a1 : Nat) (a2 : Nat) (a3 : Nat) (x4 : Int32), wp_L_law_b2323 L xs (fun w a1 a2 a3 x4 => lpN (wp_L_law_l23 L xs ) n23 (w, a1, a2, a3, x4)) w a1 a2 a3 x4 → ∀ (H : Heap) (locs : List Loc) (ls : Array Slot), hx_H G w s H locs → lv_has ls 9 [(0, va_rf (some b)), (1, va_rf (some a1)), (2, va_rf (some a2)), (3, va_rf (some a3)), (4, .int x4)] → W p l e room_1 s m args below meth c H locs (cl23 + 1) (sl23 + 6) Q (F0 m 2323 ls []) := by
        intro w a1 a2 a3 x4 h H locs ls hH hl
        refine lv_goto hx hb dL_law_2323 (tgt := 2529) (by decide) ?_
        refine W.widen (k := cl23 + 150) (n := sl23 + 16853) (by omega) (by omega) ?_
        exact b2529 _ _ _ _ _ h _ _ _ hH (lv_sub hl [0, 1, 2, 3, 4] rfl)
      have b2255 : ∀ (w : Hp) (a1 : Nat) (a2 : Nat) (a3 : Nat) (x4 : Int32), wp_L_law_b2255 L xs (fun w a1 a2 a3 x4 => lpN (wp_L_law_l23 L xs ) n23 (w, a1, a2, a3, x4)) w a1 a2 a3 x4 → ∀ (H : Heap) (locs : List Loc) (ls : Array Slot), hx_H G w s H locs → lv_has ls 9 [(0, va_rf (some b)), (1, va_rf (some a1)), (2, va_rf (some a2)), (3, va_rf (some a3)), (4, .int x4)] → W p l e room_1 s m args below meth c H locs (cl23 + 1) (sl23 + 6) Q (F0 m 2255 ls []) := by
        intro w a1 a2 a3 x4 h H locs ls hH hl
        refine lv_goto hx hb dL_law_2255 (tgt := 2529) (by decide) ?_
        refine W.widen (k := cl23 + 150) (n := sl23 + 16853) (by omega) (by omega) ?_
        exact b2529 _ _ _ _ _ h _ _ _ hH (lv_sub hl [0, 1, 2, 3, 4] rfl)
      have b2199 : ∀ (w : Hp) (a1 : Nat) (a2 : Nat) (a3 : Nat) (x4 : Int32), wp_L_law_b2199 L xs (fun w a1 a2 a3 x4 => lpN (wp_L_law_l23 L xs ) n23 (w, a1, a2, a3, x4)) w a1 a2 a3 x4 → ∀ (H : Heap) (locs : List Loc) (ls : Array Slot), hx_H G w s H locs → lv_has ls 9 [(0, va_rf (some b)), (1, va_rf (some a1)), (2, va_rf (some a2)), (3, va_rf (some a3)), (4, .int x4)] → W p l e room_1 s m args below meth c H locs (cl23 + 1) (sl23 + 6) Q (F0 m 2199 ls []) := by
        intro w a1 a2 a3 x4 h H locs ls hH hl
        refine lv_goto hx hb dL_law_2199 (tgt := 2529) (by decide) ?_
        refine W.widen (k := cl23 + 150) (n := sl23 + 16853) (by omega) (by omega) ?_
        exact b2529 _ _ _ _ _ h _ _ _ hH (lv_sub hl [0, 1, 2, 3, 4] rfl)
      have b2143 : ∀ (w : Hp) (a1 : Nat) (a2 : Nat) (a3 : Nat) (x4 : Int32), wp_L_law_b2143 L xs (fun w a1 a2 a3 x4 => lpN (wp_L_law_l23 L xs ) n23 (w, a1, a2, a3, x4)) w a1 a2 a3 x4 → ∀ (H : Heap) (locs : List Loc) (ls : Array Slot), hx_H G w s H locs → lv_has ls 9 [(0, va_rf (some b)), (1, va_rf (some a1)), (2, va_rf (some a2)), (3, va_rf (some a3)), (4, .int x4)] → W p l e room_1 s m args below meth c H locs (cl23 + 2) (sl23 + 12) Q (F0 m 2143 ls []) := by
        intro w a1 a2 a3 x4 h H locs ls hH hl
        refine lv_goto hx hb dL_law_2143 (tgt := 2529) (by decide) ?_
        refine W.widen (k := cl23 + 150) (n := sl23 + 16853) (by omega) (by omega) ?_
        exact b2529 _ _ _ _ _ h _ _ _ hH (lv_sub hl [0, 1, 2, 3, 4] rfl)
      have b2063 : ∀ (w : Hp) (a1 : Nat) (a2 : Nat) (a3 : Nat) (x4 : Int32), wp_L_law_b2063 L xs (fun w a1 a2 a3 x4 => lpN (wp_L_law_l23 L xs ) n23 (w, a1, a2, a3, x4)) w a1 a2 a3 x4 → ∀ (H : Heap) (locs : List Loc) (ls : Array Slot), hx_H G w s H locs → lv_has ls 9 [(0, va_rf (some b)), (1, va_rf (some a1)), (2, va_rf (some a2)), (3, va_rf (some a3)), (4, .int x4)] → W p l e room_1 s m args below meth c H locs (cl23 + 1) (sl23 + 6) Q (F0 m 2063 ls []) := by
        intro w a1 a2 a3 x4 h H locs ls hH hl
        refine lv_goto hx hb dL_law_2063 (tgt := 2529) (by decide) ?_
        refine W.widen (k := cl23 + 150) (n := sl23 + 16853) (by omega) (by omega) ?_
        exact b2529 _ _ _ _ _ h _ _ _ hH (lv_sub hl [0, 1, 2, 3, 4] rfl)
      have b2007 : ∀ (w : Hp) (a1 : Nat) (a2 : Nat) (a3 : Nat) (x4 : Int32), wp_L_law_b2007 L xs (fun w a1 a2 a3 x4 => lpN (wp_L_law_l23 L xs ) n23 (w, a1, a2, a3, x4)) w a1 a2 a3 x4 → ∀ (H : Heap) (locs : List Loc) (ls : Array Slot), hx_H G w s H locs → lv_has ls 9 [(0, va_rf (some b)), (1, va_rf (some a1)), (2, va_rf (some a2)), (3, va_rf (some a3)), (4, .int x4)] → W p l e room_1 s m args below meth c H locs (cl23 + 3) (sl23 + 18) Q (F0 m 2007 ls []) := by
        intro w a1 a2 a3 x4 h H locs ls hH hl
        refine lv_goto hx hb dL_law_2007 (tgt := 2529) (by decide) ?_
        refine W.widen (k := cl23 + 150) (n := sl23 + 16853) (by omega) (by omega) ?_
        exact b2529 _ _ _ _ _ h _ _ _ hH (lv_sub hl [0, 1, 2, 3, 4] rfl)
      have b1974 : ∀ (w : Hp) (a1 : Nat) (a2 : Nat) (a3 : Nat) (x4 : Int32) (x5 : Int32) (t0 : Int32) (t1 : Int32) (t2 : Int32) (at3 : Nat), wp_L_law_b1974 L xs (fun w a1 a2 a3 x4 => lpN (wp_L_law_l23 L xs ) n23 (w, a1, a2, a3, x4)) w a1 a2 a3 x4 x5 t0 t1 t2 at3 → ∀ (H : Heap) (locs : List Loc) (ls : Array Slot), hx_H G w s H locs → lv_has ls 9 [(0, va_rf (some b)), (1, va_rf (some a1)), (2, va_rf (some a2)), (3, va_rf (some a3)), (4, .int x4), (5, .int x5)] → W p l e room_1 s m args below meth c H locs (cl23 + 3) (sl23 + 18) Q (F0 m 1974 ls [.int t0, .int t1, .int t2, va_rf (some at3)]) := by
        intro w a1 a2 a3 x4 x5 t0 t1 t2 at3 h H locs ls hH hl
        obtain ⟨ho, h⟩ := h
        refine hx_Vi C0 hU hH (As := [.int t2, .int t1, .int t0]) (wk_X4_stamp l h) (cwV 3 hts (lw_V q1426 q1427 q1428 q71 q1429) rfl rfl rfl (by decide +kernel) ⟨Nat.le_of_ble_eq_true rfl, Nat.le_of_ble_eq_true rfl⟩) (hx_recv hU hH (ci := 3) rfl ho) rfl hl.1 rfl (Nat.le_of_ble_eq_true rfl) dL_law_1974 ⟨(show _ ≤ 1200144 by omega), (show _ ≤ 5497210 by omega)⟩ (fun i_1 w H locs hH h => ?_)
        refine lv_istore hx hb dL_law_1977 hl (by decide) (lv' := [(6, .int i_1), (0, va_rf (some b)), (1, va_rf (some a1)), (2, va_rf (some a2)), (3, va_rf (some a3)), (4, .int x4), (5, .int x5)]) rfl (fun ls hl => ?_)
        refine hx_aload_n C0 dL_law_1979 rfl (lv_at hl 3 rfl) ?_
        obtain ⟨ho, h⟩ := h
        refine hx_Vi C0 hU hH (As := []) (wk_X4_thrown l h) (cwV 0 hts (lw_V q1153 q1154 q1155 q71 q1156) rfl rfl rfl (by decide +kernel) ⟨Nat.le_of_ble_eq_true rfl, Nat.le_of_ble_eq_true rfl⟩) (hx_recv hU hH (ci := 3) rfl ho) rfl hl.1 rfl (Nat.le_of_ble_eq_true rfl) dL_law_1980 ⟨(show _ ≤ 1200144 by omega), (show _ ≤ 5497210 by omega)⟩ (fun i_2 w H locs hH h => ?_)
        refine lv_iload hx hb dL_law_1983 (lv_at hl 6 rfl) ?_
        refine lv_icmp_eq hx hb dL_law_1985 (tgt := 1990) (by decide) (fun c_3 => ?_) (fun c_3 => ?_)
        · have h := h.1 c_3
          refine lv_iload hx hb dL_law_1990 (lv_at hl 6 rfl) ?_
          refine lv_if_ne hx hb dL_law_1992 (tgt := 2007) (by decide) (fun c_4 => ?_) (fun c_4 => ?_)
          · have h := h.2 c_4
            refine W.widen (k := cl23 + 3) (n := sl23 + 18) (by omega) (by omega) ?_
            exact b2007 _ _ _ _ _ h _ _ _ hH (lv_sub hl [1, 2, 3, 4, 5] rfl)
          · have h := h.1 c_4
            refine hx_aload_n C0 dL_law_1995 rfl (lv_at hl 4 rfl) ?_
            refine lv_iconst (v := 0) hx hb dL_law_1996 (by decide) ?_
            refine hx_aJ C0 hU hH h dL_law_1997 (fun l_5 h => ?_)
            refine lv_iload hx hb dL_law_1998 (lv_at hl 0 rfl) ?_
            refine lv_i2l hx hb dL_law_2000 rfl ?_
            refine W.lcmp hx hb dL_law_2001 ?_
            refine lv_if_eq hx hb dL_law_2002 (tgt := 2007) (by decide) (fun c_6 => ?_) (fun c_6 => ?_)
            · have h := h.1 c_6
              refine W.widen (k := cl23 + 3) (n := sl23 + 18) (by omega) (by omega) ?_
              exact b2007 _ _ _ _ _ h _ _ _ hH (lv_sub hl [1, 2, 3, 4, 5] rfl)
            · have h := h.2 c_6
              refine lv_iconst (v := 0) hx hb dL_law_2005 (by decide) ?_
              exact h.elim
        · have h := h.2 c_3
          refine lv_iconst (v := 0) hx hb dL_law_1988 (by decide) ?_
          exact h.elim
      have b1941 : ∀ (w : Hp) (a1 : Nat) (a2 : Nat) (a3 : Nat) (x4 : Int32) (t0 : Int32) (t1 : Int32) (t2 : Int32) (at3 : Nat), wp_L_law_b1941 L xs (fun w a1 a2 a3 x4 => lpN (wp_L_law_l23 L xs ) n23 (w, a1, a2, a3, x4)) w a1 a2 a3 x4 t0 t1 t2 at3 → ∀ (H : Heap) (locs : List Loc) (ls : Array Slot), hx_H G w s H locs → lv_has ls 9 [(0, va_rf (some b)), (1, va_rf (some a1)), (2, va_rf (some a2)), (3, va_rf (some a3)), (4, .int x4)] → W p l e room_1 s m args below meth c H locs (cl23 + 0) (sl23 + 0) Q (F0 m 1941 ls [.int t0, .int t1, .int t2, va_rf (some at3)]) := by
        intro w a1 a2 a3 x4 t0 t1 t2 at3 h H locs ls hH hl
        refine hx_aload_n C0 dL_law_1941 rfl (lv_at hl 3 rfl) ?_
        refine hx_SWi C0 hU hH (As := [va_rf (some at3), .int t2, .int t1, .int t0, va_rf (some a3)]) (wk_X0_stamp l hst h) (vx_cwSW 5 hts (lw_SW q997 q998 q59 q999) rfl rfl rfl (by decide +kernel) ⟨Nat.le_of_ble_eq_true rfl, Nat.le_of_ble_eq_true rfl⟩) rfl hl.1 rfl (Nat.le_of_ble_eq_true rfl) dL_law_1942 ⟨(show _ ≤ 1200144 by omega), (show _ ≤ 5497210 by omega)⟩ (fun i_1 w H locs hH h => ?_)
        refine lv_istore hx hb dL_law_1945 hl (by decide) (lv' := [(5, .int i_1), (0, va_rf (some b)), (1, va_rf (some a1)), (2, va_rf (some a2)), (3, va_rf (some a3)), (4, .int x4)]) rfl (fun ls hl => ?_)
        refine hx_aload_n C0 dL_law_1947 rfl (lv_at hl 3 rfl) ?_
        refine hx_aload_n C0 dL_law_1948 rfl (lv_at hl 1 rfl) ?_
        refine lv_iload hx hb dL_law_1949 (lv_at hl 5 rfl) ?_
        refine lv_iconst (v := 1) hx hb dL_law_1951 (by decide) ?_
        refine lv_iadd hx hb dL_law_1952 ?_
        obtain ⟨hg, h⟩ := h
        refine va_sld hx hb hX hbl hbA hH.2 hg dL_law_1953 ?_
        refine lv_topi (fun i_2 ei_2 => ?_)
        have h := h i_2 ei_2
        refine hx_aload_n C0 dL_law_1954 rfl (lv_at hl 1 rfl) ?_
        refine lv_iload hx hb dL_law_1955 (lv_at hl 5 rfl) ?_
        refine lv_iconst (v := 2) hx hb dL_law_1957 (by decide) ?_
        refine lv_iadd hx hb dL_law_1958 ?_
        obtain ⟨hg, h⟩ := h
        refine va_sld hx hb hX hbl hbA hH.2 hg dL_law_1959 ?_
        refine lv_topi (fun i_3 ei_3 => ?_)
        have h := h i_3 ei_3
        refine hx_aload_n C0 dL_law_1960 rfl (lv_at hl 1 rfl) ?_
        refine lv_iload hx hb dL_law_1961 (lv_at hl 5 rfl) ?_
        refine lv_iconst (v := 3) hx hb dL_law_1963 (by decide) ?_
        refine lv_iadd hx hb dL_law_1964 ?_
        obtain ⟨hg, h⟩ := h
        refine va_sld hx hb hX hbl hbA hH.2 hg dL_law_1965 ?_
        refine lv_topi (fun i_4 ei_4 => ?_)
        have h := h i_4 ei_4
        refine lv_if_eq hx hb dL_law_1966 (tgt := 1973) (by decide) (fun c_5 => ?_) (fun c_5 => ?_)
        · have h := h.1 c_5
          refine lv_iconst (v := 0) hx hb dL_law_1973 (by decide) ?_
          refine W.widen (k := cl23 + 3) (n := sl23 + 18) (by omega) (by omega) ?_
          exact b1974 _ _ _ _ _ _ _ _ _ _ h _ _ _ hH (lv_sub hl [1, 2, 3, 4, 5, 0] rfl)
        · have h := h.2 c_5
          refine lv_iconst (v := 1) hx hb dL_law_1969 (by decide) ?_
          refine lv_goto hx hb dL_law_1970 (tgt := 1974) (by decide) ?_
          refine W.widen (k := cl23 + 3) (n := sl23 + 18) (by omega) (by omega) ?_
          exact b1974 _ _ _ _ _ _ _ _ _ _ h _ _ _ hH (lv_sub hl [1, 2, 3, 4, 5, 0] rfl)
      have b1911 : ∀ (w : Hp) (a1 : Nat) (a2 : Nat) (a3 : Nat) (x4 : Int32), wp_L_law_b1911 L xs (fun w a1 a2 a3 x4 => lpN (wp_L_law_l23 L xs ) n23 (w, a1, a2, a3, x4)) w a1 a2 a3 x4 → ∀ (H : Heap) (locs : List Loc) (ls : Array Slot), hx_H G w s H locs → lv_has ls 9 [(0, va_rf (some b)), (1, va_rf (some a1)), (2, va_rf (some a2)), (3, va_rf (some a3)), (4, .int x4)] → W p l e room_1 s m args below meth c H locs (cl23 + 3) (sl23 + 18) Q (F0 m 1911 ls []) := by
        intro w a1 a2 a3 x4 h H locs ls hH hl
        refine lv_goto hx hb dL_law_1911 (tgt := 2529) (by decide) ?_
        refine W.widen (k := cl23 + 150) (n := sl23 + 16853) (by omega) (by omega) ?_
        exact b2529 _ _ _ _ _ h _ _ _ hH (lv_sub hl [0, 1, 2, 3, 4] rfl)
      have b1843 : ∀ (w : Hp) (a1 : Nat) (a2 : Nat) (a3 : Nat) (x4 : Int32), wp_L_law_b1843 L xs (fun w a1 a2 a3 x4 => lpN (wp_L_law_l23 L xs ) n23 (w, a1, a2, a3, x4)) w a1 a2 a3 x4 → ∀ (H : Heap) (locs : List Loc) (ls : Array Slot), hx_H G w s H locs → lv_has ls 9 [(0, va_rf (some b)), (1, va_rf (some a1)), (2, va_rf (some a2)), (3, va_rf (some a3)), (4, .int x4)] → W p l e room_1 s m args below meth c H locs (cl23 + 3) (sl23 + 18) Q (F0 m 1843 ls []) := by
        intro w a1 a2 a3 x4 h H locs ls hH hl
        refine lv_goto hx hb dL_law_1843 (tgt := 2529) (by decide) ?_
        refine W.widen (k := cl23 + 150) (n := sl23 + 16853) (by omega) (by omega) ?_
        exact b2529 _ _ _ _ _ h _ _ _ hH (lv_sub hl [0, 1, 2, 3, 4] rfl)
      have b1775 : ∀ (w : Hp) (a1 : Nat) (a2 : Nat) (a3 : Nat) (x4 : Int32), wp_L_law_b1775 L xs (fun w a1 a2 a3 x4 => lpN (wp_L_law_l23 L xs ) n23 (w, a1, a2, a3, x4)) w a1 a2 a3 x4 → ∀ (H : Heap) (locs : List Loc) (ls : Array Slot), hx_H G w s H locs → lv_has ls 9 [(0, va_rf (some b)), (1, va_rf (some a1)), (2, va_rf (some a2)), (3, va_rf (some a3)), (4, .int x4)] → W p l e room_1 s m args below meth c H locs (cl23 + 3) (sl23 + 18) Q (F0 m 1775 ls []) := by
        intro w a1 a2 a3 x4 h H locs ls hH hl
        refine lv_goto hx hb dL_law_1775 (tgt := 2529) (by decide) ?_
        refine W.widen (k := cl23 + 150) (n := sl23 + 16853) (by omega) (by omega) ?_
        exact b2529 _ _ _ _ _ h _ _ _ hH (lv_sub hl [0, 1, 2, 3, 4] rfl)
      have b1707 : ∀ (w : Hp) (a1 : Nat) (a2 : Nat) (a3 : Nat) (x4 : Int32), wp_L_law_b1707 L xs (fun w a1 a2 a3 x4 => lpN (wp_L_law_l23 L xs ) n23 (w, a1, a2, a3, x4)) w a1 a2 a3 x4 → ∀ (H : Heap) (locs : List Loc) (ls : Array Slot), hx_H G w s H locs → lv_has ls 9 [(0, va_rf (some b)), (1, va_rf (some a1)), (2, va_rf (some a2)), (3, va_rf (some a3)), (4, .int x4)] → W p l e room_1 s m args below meth c H locs (cl23 + 3) (sl23 + 18) Q (F0 m 1707 ls []) := by
        intro w a1 a2 a3 x4 h H locs ls hH hl
        refine lv_goto hx hb dL_law_1707 (tgt := 2529) (by decide) ?_
        refine W.widen (k := cl23 + 150) (n := sl23 + 16853) (by omega) (by omega) ?_
        exact b2529 _ _ _ _ _ h _ _ _ hH (lv_sub hl [0, 1, 2, 3, 4] rfl)
      have b1701 : ∀ (w : Hp) (a1 : Nat) (a2 : Nat) (a3 : Nat) (x4 : Int32) (t0 : Int64) (t1 : Int64), wp_L_law_b1701 L xs (fun w a1 a2 a3 x4 => lpN (wp_L_law_l23 L xs ) n23 (w, a1, a2, a3, x4)) w a1 a2 a3 x4 t0 t1 → ∀ (H : Heap) (locs : List Loc) (ls : Array Slot), hx_H G w s H locs → lv_has ls 9 [(0, va_rf (some b)), (1, va_rf (some a1)), (2, va_rf (some a2)), (3, va_rf (some a3)), (4, .int x4)] → W p l e room_1 s m args below meth c H locs (cl23 + 3) (sl23 + 18) Q (F0 m 1701 ls [.long t0, .long t1]) := by
        intro w a1 a2 a3 x4 t0 t1 h H locs ls hH hl
        refine W.lcmp hx hb dL_law_1701 ?_
        refine lv_if_eq hx hb dL_law_1702 (tgt := 1707) (by decide) (fun c_1 => ?_) (fun c_1 => ?_)
        · have h := h.1 c_1
          refine W.widen (k := cl23 + 3) (n := sl23 + 18) (by omega) (by omega) ?_
          exact b1707 _ _ _ _ _ h _ _ _ hH (lv_sub hl [0, 1, 2, 3, 4] rfl)
        · have h := h.2 c_1
          refine lv_iconst (v := 0) hx hb dL_law_1705 (by decide) ?_
          exact h.elim
      have b1632 : ∀ (w : Hp) (a1 : Nat) (a2 : Nat) (a3 : Nat) (x4 : Int32), wp_L_law_b1632 L xs (fun w a1 a2 a3 x4 => lpN (wp_L_law_l23 L xs ) n23 (w, a1, a2, a3, x4)) w a1 a2 a3 x4 → ∀ (H : Heap) (locs : List Loc) (ls : Array Slot), hx_H G w s H locs → lv_has ls 9 [(0, va_rf (some b)), (1, va_rf (some a1)), (2, va_rf (some a2)), (3, va_rf (some a3)), (4, .int x4)] → W p l e room_1 s m args below meth c H locs (cl23 + 4) (sl23 + 24) Q (F0 m 1632 ls []) := by
        intro w a1 a2 a3 x4 h H locs ls hH hl
        refine lv_goto hx hb dL_law_1632 (tgt := 2529) (by decide) ?_
        refine W.widen (k := cl23 + 150) (n := sl23 + 16853) (by omega) (by omega) ?_
        exact b2529 _ _ _ _ _ h _ _ _ hH (lv_sub hl [0, 1, 2, 3, 4] rfl)
      have b1540 : ∀ (w : Hp) (a1 : Nat) (a2 : Nat) (a3 : Nat) (x4 : Int32), wp_L_law_b1540 L xs (fun w a1 a2 a3 x4 => lpN (wp_L_law_l23 L xs ) n23 (w, a1, a2, a3, x4)) w a1 a2 a3 x4 → ∀ (H : Heap) (locs : List Loc) (ls : Array Slot), hx_H G w s H locs → lv_has ls 9 [(0, va_rf (some b)), (1, va_rf (some a1)), (2, va_rf (some a2)), (3, va_rf (some a3)), (4, .int x4)] → W p l e room_1 s m args below meth c H locs (cl23 + 2) (sl23 + 12) Q (F0 m 1540 ls []) := by
        intro w a1 a2 a3 x4 h H locs ls hH hl
        refine lv_goto hx hb dL_law_1540 (tgt := 2529) (by decide) ?_
        refine W.widen (k := cl23 + 150) (n := sl23 + 16853) (by omega) (by omega) ?_
        exact b2529 _ _ _ _ _ h _ _ _ hH (lv_sub hl [0, 1, 2, 3, 4] rfl)
      have b1472 : ∀ (w : Hp) (a1 : Nat) (a2 : Nat) (a3 : Nat) (x4 : Int32), wp_L_law_b1472 L xs (fun w a1 a2 a3 x4 => lpN (wp_L_law_l23 L xs ) n23 (w, a1, a2, a3, x4)) w a1 a2 a3 x4 → ∀ (H : Heap) (locs : List Loc) (ls : Array Slot), hx_H G w s H locs → lv_has ls 9 [(0, va_rf (some b)), (1, va_rf (some a1)), (2, va_rf (some a2)), (3, va_rf (some a3)), (4, .int x4)] → W p l e room_1 s m args below meth c H locs (cl23 + 3) (sl23 + 18) Q (F0 m 1472 ls []) := by
        intro w a1 a2 a3 x4 h H locs ls hH hl
        refine lv_goto hx hb dL_law_1472 (tgt := 2529) (by decide) ?_
        refine W.widen (k := cl23 + 150) (n := sl23 + 16853) (by omega) (by omega) ?_
        exact b2529 _ _ _ _ _ h _ _ _ hH (lv_sub hl [0, 1, 2, 3, 4] rfl)
      have b1404 : ∀ (w : Hp) (a1 : Nat) (a2 : Nat) (a3 : Nat) (x4 : Int32), wp_L_law_b1404 L xs (fun w a1 a2 a3 x4 => lpN (wp_L_law_l23 L xs ) n23 (w, a1, a2, a3, x4)) w a1 a2 a3 x4 → ∀ (H : Heap) (locs : List Loc) (ls : Array Slot), hx_H G w s H locs → lv_has ls 9 [(0, va_rf (some b)), (1, va_rf (some a1)), (2, va_rf (some a2)), (3, va_rf (some a3)), (4, .int x4)] → W p l e room_1 s m args below meth c H locs (cl23 + 1) (sl23 + 6) Q (F0 m 1404 ls []) := by
        intro w a1 a2 a3 x4 h H locs ls hH hl
        refine lv_goto hx hb dL_law_1404 (tgt := 2529) (by decide) ?_
        refine W.widen (k := cl23 + 150) (n := sl23 + 16853) (by omega) (by omega) ?_
        exact b2529 _ _ _ _ _ h _ _ _ hH (lv_sub hl [0, 1, 2, 3, 4] rfl)
      have b1348 : ∀ (w : Hp) (a1 : Nat) (a2 : Nat) (a3 : Nat) (x4 : Int32), wp_L_law_b1348 L xs (fun w a1 a2 a3 x4 => lpN (wp_L_law_l23 L xs ) n23 (w, a1, a2, a3, x4)) w a1 a2 a3 x4 → ∀ (H : Heap) (locs : List Loc) (ls : Array Slot), hx_H G w s H locs → lv_has ls 9 [(0, va_rf (some b)), (1, va_rf (some a1)), (2, va_rf (some a2)), (3, va_rf (some a3)), (4, .int x4)] → W p l e room_1 s m args below meth c H locs (cl23 + 1) (sl23 + 6) Q (F0 m 1348 ls []) := by
        intro w a1 a2 a3 x4 h H locs ls hH hl
        refine lv_goto hx hb dL_law_1348 (tgt := 2529) (by decide) ?_
        refine W.widen (k := cl23 + 150) (n := sl23 + 16853) (by omega) (by omega) ?_
        exact b2529 _ _ _ _ _ h _ _ _ hH (lv_sub hl [0, 1, 2, 3, 4] rfl)
      have b1342 : ∀ (w : Hp) (a1 : Nat) (a2 : Nat) (a3 : Nat) (x4 : Int32) (t0 : Int64) (t1 : Int64), wp_L_law_b1342 L xs (fun w a1 a2 a3 x4 => lpN (wp_L_law_l23 L xs ) n23 (w, a1, a2, a3, x4)) w a1 a2 a3 x4 t0 t1 → ∀ (H : Heap) (locs : List Loc) (ls : Array Slot), hx_H G w s H locs → lv_has ls 9 [(0, va_rf (some b)), (1, va_rf (some a1)), (2, va_rf (some a2)), (3, va_rf (some a3)), (4, .int x4)] → W p l e room_1 s m args below meth c H locs (cl23 + 1) (sl23 + 6) Q (F0 m 1342 ls [.long t0, .long t1]) := by
        intro w a1 a2 a3 x4 t0 t1 h H locs ls hH hl
        refine W.lcmp hx hb dL_law_1342 ?_
        refine lv_if_eq hx hb dL_law_1343 (tgt := 1348) (by decide) (fun c_1 => ?_) (fun c_1 => ?_)
        · have h := h.1 c_1
          refine W.widen (k := cl23 + 1) (n := sl23 + 6) (by omega) (by omega) ?_
          exact b1348 _ _ _ _ _ h _ _ _ hH (lv_sub hl [0, 1, 2, 3, 4] rfl)
        · have h := h.2 c_1
          refine lv_iconst (v := 0) hx hb dL_law_1346 (by decide) ?_
          exact h.elim
      have b1285 : ∀ (w : Hp) (a1 : Nat) (a2 : Nat) (a3 : Nat) (x4 : Int32), wp_L_law_b1285 L xs (fun w a1 a2 a3 x4 => lpN (wp_L_law_l23 L xs ) n23 (w, a1, a2, a3, x4)) w a1 a2 a3 x4 → ∀ (H : Heap) (locs : List Loc) (ls : Array Slot), hx_H G w s H locs → lv_has ls 9 [(0, va_rf (some b)), (1, va_rf (some a1)), (2, va_rf (some a2)), (3, va_rf (some a3)), (4, .int x4)] → W p l e room_1 s m args below meth c H locs (cl23 + 2) (sl23 + 12) Q (F0 m 1285 ls []) := by
        intro w a1 a2 a3 x4 h H locs ls hH hl
        refine lv_goto hx hb dL_law_1285 (tgt := 2529) (by decide) ?_
        refine W.widen (k := cl23 + 150) (n := sl23 + 16853) (by omega) (by omega) ?_
        exact b2529 _ _ _ _ _ h _ _ _ hH (lv_sub hl [0, 1, 2, 3, 4] rfl)
      have b1191 : ∀ (w : Hp) (a1 : Nat) (a2 : Nat) (a3 : Nat) (x4 : Int32), wp_L_law_b1191 L xs (fun w a1 a2 a3 x4 => lpN (wp_L_law_l23 L xs ) n23 (w, a1, a2, a3, x4)) w a1 a2 a3 x4 → ∀ (H : Heap) (locs : List Loc) (ls : Array Slot), hx_H G w s H locs → lv_has ls 9 [(0, va_rf (some b)), (1, va_rf (some a1)), (2, va_rf (some a2)), (3, va_rf (some a3)), (4, .int x4)] → W p l e room_1 s m args below meth c H locs (cl23 + 2) (sl23 + 262) Q (F0 m 1191 ls []) := by
        intro w a1 a2 a3 x4 h H locs ls hH hl
        refine lv_goto hx hb dL_law_1191 (tgt := 2529) (by decide) ?_
        refine W.widen (k := cl23 + 150) (n := sl23 + 16853) (by omega) (by omega) ?_
        exact b2529 _ _ _ _ _ h _ _ _ hH (lv_sub hl [0, 1, 2, 3, 4] rfl)
      have b1135 : ∀ (w : Hp) (a1 : Nat) (a2 : Nat) (a3 : Nat) (x4 : Int32), wp_L_law_b1135 L xs (fun w a1 a2 a3 x4 => lpN (wp_L_law_l23 L xs ) n23 (w, a1, a2, a3, x4)) w a1 a2 a3 x4 → ∀ (H : Heap) (locs : List Loc) (ls : Array Slot), hx_H G w s H locs → lv_has ls 9 [(0, va_rf (some b)), (1, va_rf (some a1)), (2, va_rf (some a2)), (3, va_rf (some a3)), (4, .int x4)] → W p l e room_1 s m args below meth c H locs (cl23 + 2) (sl23 + 12) Q (F0 m 1135 ls []) := by
        intro w a1 a2 a3 x4 h H locs ls hH hl
        refine lv_goto hx hb dL_law_1135 (tgt := 2529) (by decide) ?_
        refine W.widen (k := cl23 + 150) (n := sl23 + 16853) (by omega) (by omega) ?_
        exact b2529 _ _ _ _ _ h _ _ _ hH (lv_sub hl [0, 1, 2, 3, 4] rfl)
      have b1067 : ∀ (w : Hp) (a1 : Nat) (a2 : Nat) (a3 : Nat) (x4 : Int32), wp_L_law_b1067 L xs (fun w a1 a2 a3 x4 => lpN (wp_L_law_l23 L xs ) n23 (w, a1, a2, a3, x4)) w a1 a2 a3 x4 → ∀ (H : Heap) (locs : List Loc) (ls : Array Slot), hx_H G w s H locs → lv_has ls 9 [(0, va_rf (some b)), (1, va_rf (some a1)), (2, va_rf (some a2)), (3, va_rf (some a3)), (4, .int x4)] → W p l e room_1 s m args below meth c H locs (cl23 + 2) (sl23 + 12) Q (F0 m 1067 ls []) := by
        intro w a1 a2 a3 x4 h H locs ls hH hl
        refine lv_goto hx hb dL_law_1067 (tgt := 2529) (by decide) ?_
        refine W.widen (k := cl23 + 150) (n := sl23 + 16853) (by omega) (by omega) ?_
        exact b2529 _ _ _ _ _ h _ _ _ hH (lv_sub hl [0, 1, 2, 3, 4] rfl)
      have b987 : ∀ (w : Hp) (a1 : Nat) (a2 : Nat) (a3 : Nat) (x4 : Int32), wp_L_law_b987 L xs (fun w a1 a2 a3 x4 => lpN (wp_L_law_l23 L xs ) n23 (w, a1, a2, a3, x4)) w a1 a2 a3 x4 → ∀ (H : Heap) (locs : List Loc) (ls : Array Slot), hx_H G w s H locs → lv_has ls 9 [(0, va_rf (some b)), (1, va_rf (some a1)), (2, va_rf (some a2)), (3, va_rf (some a3)), (4, .int x4)] → W p l e room_1 s m args below meth c H locs (cl23 + 5) (sl23 + 291) Q (F0 m 987 ls []) := by
        intro w a1 a2 a3 x4 h H locs ls hH hl
        refine lv_goto hx hb dL_law_987 (tgt := 2529) (by decide) ?_
        refine W.widen (k := cl23 + 150) (n := sl23 + 16853) (by omega) (by omega) ?_
        exact b2529 _ _ _ _ _ h _ _ _ hH (lv_sub hl [0, 1, 2, 3, 4] rfl)
      have b931 : ∀ (w : Hp) (a1 : Nat) (a2 : Nat) (a3 : Nat) (x4 : Int32), wp_L_law_b931 L xs (fun w a1 a2 a3 x4 => lpN (wp_L_law_l23 L xs ) n23 (w, a1, a2, a3, x4)) w a1 a2 a3 x4 → ∀ (H : Heap) (locs : List Loc) (ls : Array Slot), hx_H G w s H locs → lv_has ls 9 [(0, va_rf (some b)), (1, va_rf (some a1)), (2, va_rf (some a2)), (3, va_rf (some a3)), (4, .int x4)] → W p l e room_1 s m args below meth c H locs (cl23 + 1) (sl23 + 6) Q (F0 m 931 ls []) := by
        intro w a1 a2 a3 x4 h H locs ls hH hl
        refine lv_goto hx hb dL_law_931 (tgt := 2529) (by decide) ?_
        refine W.widen (k := cl23 + 150) (n := sl23 + 16853) (by omega) (by omega) ?_
        exact b2529 _ _ _ _ _ h _ _ _ hH (lv_sub hl [0, 1, 2, 3, 4] rfl)
      have b875 : ∀ (w : Hp) (a1 : Nat) (a2 : Nat) (a3 : Nat) (x4 : Int32), wp_L_law_b875 L xs (fun w a1 a2 a3 x4 => lpN (wp_L_law_l23 L xs ) n23 (w, a1, a2, a3, x4)) w a1 a2 a3 x4 → ∀ (H : Heap) (locs : List Loc) (ls : Array Slot), hx_H G w s H locs → lv_has ls 9 [(0, va_rf (some b)), (1, va_rf (some a1)), (2, va_rf (some a2)), (3, va_rf (some a3)), (4, .int x4)] → W p l e room_1 s m args below meth c H locs (cl23 + 147) (sl23 + 6954) Q (F0 m 875 ls []) := by
        intro w a1 a2 a3 x4 h H locs ls hH hl
        refine lv_goto hx hb dL_law_875 (tgt := 2529) (by decide) ?_
        refine W.widen (k := cl23 + 150) (n := sl23 + 16853) (by omega) (by omega) ?_
        exact b2529 _ _ _ _ _ h _ _ _ hH (lv_sub hl [0, 1, 2, 3, 4] rfl)
      have b819 : ∀ (w : Hp) (a1 : Nat) (a2 : Nat) (a3 : Nat) (x4 : Int32), wp_L_law_b819 L xs (fun w a1 a2 a3 x4 => lpN (wp_L_law_l23 L xs ) n23 (w, a1, a2, a3, x4)) w a1 a2 a3 x4 → ∀ (H : Heap) (locs : List Loc) (ls : Array Slot), hx_H G w s H locs → lv_has ls 9 [(0, va_rf (some b)), (1, va_rf (some a1)), (2, va_rf (some a2)), (3, va_rf (some a3)), (4, .int x4)] → W p l e room_1 s m args below meth c H locs (cl23 + 16) (sl23 + 342) Q (F0 m 819 ls []) := by
        intro w a1 a2 a3 x4 h H locs ls hH hl
        refine lv_goto hx hb dL_law_819 (tgt := 2529) (by decide) ?_
        refine W.widen (k := cl23 + 150) (n := sl23 + 16853) (by omega) (by omega) ?_
        exact b2529 _ _ _ _ _ h _ _ _ hH (lv_sub hl [0, 1, 2, 3, 4] rfl)
      have b751 : ∀ (w : Hp) (a1 : Nat) (a2 : Nat) (a3 : Nat) (x4 : Int32), wp_L_law_b751 L xs (fun w a1 a2 a3 x4 => lpN (wp_L_law_l23 L xs ) n23 (w, a1, a2, a3, x4)) w a1 a2 a3 x4 → ∀ (H : Heap) (locs : List Loc) (ls : Array Slot), hx_H G w s H locs → lv_has ls 9 [(0, va_rf (some b)), (1, va_rf (some a1)), (2, va_rf (some a2)), (3, va_rf (some a3)), (4, .int x4)] → W p l e room_1 s m args below meth c H locs (cl23 + 11) (sl23 + 327) Q (F0 m 751 ls []) := by
        intro w a1 a2 a3 x4 h H locs ls hH hl
        refine lv_goto hx hb dL_law_751 (tgt := 2529) (by decide) ?_
        refine W.widen (k := cl23 + 150) (n := sl23 + 16853) (by omega) (by omega) ?_
        exact b2529 _ _ _ _ _ h _ _ _ hH (lv_sub hl [0, 1, 2, 3, 4] rfl)
      have b745 : ∀ (w : Hp) (a1 : Nat) (a2 : Nat) (a3 : Nat) (x4 : Int32) (t0 : Int64) (t1 : Int64), wp_L_law_b745 L xs (fun w a1 a2 a3 x4 => lpN (wp_L_law_l23 L xs ) n23 (w, a1, a2, a3, x4)) w a1 a2 a3 x4 t0 t1 → ∀ (H : Heap) (locs : List Loc) (ls : Array Slot), hx_H G w s H locs → lv_has ls 9 [(0, va_rf (some b)), (1, va_rf (some a1)), (2, va_rf (some a2)), (3, va_rf (some a3)), (4, .int x4)] → W p l e room_1 s m args below meth c H locs (cl23 + 11) (sl23 + 327) Q (F0 m 745 ls [.long t0, .long t1]) := by
        intro w a1 a2 a3 x4 t0 t1 h H locs ls hH hl
        refine W.lcmp hx hb dL_law_745 ?_
        refine lv_if_eq hx hb dL_law_746 (tgt := 751) (by decide) (fun c_1 => ?_) (fun c_1 => ?_)
        · have h := h.1 c_1
          refine W.widen (k := cl23 + 11) (n := sl23 + 327) (by omega) (by omega) ?_
          exact b751 _ _ _ _ _ h _ _ _ hH (lv_sub hl [0, 1, 2, 3, 4] rfl)
        · have h := h.2 c_1
          refine lv_iconst (v := 0) hx hb dL_law_749 (by decide) ?_
          exact h.elim
      have b676 : ∀ (w : Hp) (a1 : Nat) (a2 : Nat) (a3 : Nat) (x4 : Int32), wp_L_law_b676 L xs (fun w a1 a2 a3 x4 => lpN (wp_L_law_l23 L xs ) n23 (w, a1, a2, a3, x4)) w a1 a2 a3 x4 → ∀ (H : Heap) (locs : List Loc) (ls : Array Slot), hx_H G w s H locs → lv_has ls 9 [(0, va_rf (some b)), (1, va_rf (some a1)), (2, va_rf (some a2)), (3, va_rf (some a3)), (4, .int x4)] → W p l e room_1 s m args below meth c H locs (cl23 + 22) (sl23 + 639) Q (F0 m 676 ls []) := by
        intro w a1 a2 a3 x4 h H locs ls hH hl
        refine lv_goto hx hb dL_law_676 (tgt := 2529) (by decide) ?_
        refine W.widen (k := cl23 + 150) (n := sl23 + 16853) (by omega) (by omega) ?_
        exact b2529 _ _ _ _ _ h _ _ _ hH (lv_sub hl [0, 1, 2, 3, 4] rfl)
      have b584 : ∀ (w : Hp) (a1 : Nat) (a2 : Nat) (a3 : Nat) (x4 : Int32), wp_L_law_b584 L xs (fun w a1 a2 a3 x4 => lpN (wp_L_law_l23 L xs ) n23 (w, a1, a2, a3, x4)) w a1 a2 a3 x4 → ∀ (H : Heap) (locs : List Loc) (ls : Array Slot), hx_H G w s H locs → lv_has ls 9 [(0, va_rf (some b)), (1, va_rf (some a1)), (2, va_rf (some a2)), (3, va_rf (some a3)), (4, .int x4)] → W p l e room_1 s m args below meth c H locs (cl23 + 2) (sl23 + 12) Q (F0 m 584 ls []) := by
        intro w a1 a2 a3 x4 h H locs ls hH hl
        refine lv_goto hx hb dL_law_584 (tgt := 2529) (by decide) ?_
        refine W.widen (k := cl23 + 150) (n := sl23 + 16853) (by omega) (by omega) ?_
        exact b2529 _ _ _ _ _ h _ _ _ hH (lv_sub hl [0, 1, 2, 3, 4] rfl)
      have b504 : ∀ (w : Hp) (a1 : Nat) (a2 : Nat) (a3 : Nat) (x4 : Int32), wp_L_law_b504 L xs (fun w a1 a2 a3 x4 => lpN (wp_L_law_l23 L xs ) n23 (w, a1, a2, a3, x4)) w a1 a2 a3 x4 → ∀ (H : Heap) (locs : List Loc) (ls : Array Slot), hx_H G w s H locs → lv_has ls 9 [(0, va_rf (some b)), (1, va_rf (some a1)), (2, va_rf (some a2)), (3, va_rf (some a3)), (4, .int x4)] → W p l e room_1 s m args below meth c H locs (cl23 + 4) (sl23 + 21) Q (F0 m 504 ls []) := by
        intro w a1 a2 a3 x4 h H locs ls hH hl
        refine lv_goto hx hb dL_law_504 (tgt := 2529) (by decide) ?_
        refine W.widen (k := cl23 + 150) (n := sl23 + 16853) (by omega) (by omega) ?_
        exact b2529 _ _ _ _ _ h _ _ _ hH (lv_sub hl [0, 1, 2, 3, 4] rfl)
      have b412 : ∀ (w : Hp) (a1 : Nat) (a2 : Nat) (a3 : Nat) (x4 : Int32), wp_L_law_b412 L xs (fun w a1 a2 a3 x4 => lpN (wp_L_law_l23 L xs ) n23 (w, a1, a2, a3, x4)) w a1 a2 a3 x4 → ∀ (H : Heap) (locs : List Loc) (ls : Array Slot), hx_H G w s H locs → lv_has ls 9 [(0, va_rf (some b)), (1, va_rf (some a1)), (2, va_rf (some a2)), (3, va_rf (some a3)), (4, .int x4)] → W p l e room_1 s m args below meth c H locs (cl23 + 1) (sl23 + 6) Q (F0 m 412 ls []) := by
        intro w a1 a2 a3 x4 h H locs ls hH hl
        refine lv_goto hx hb dL_law_412 (tgt := 2529) (by decide) ?_
        refine W.widen (k := cl23 + 150) (n := sl23 + 16853) (by omega) (by omega) ?_
        exact b2529 _ _ _ _ _ h _ _ _ hH (lv_sub hl [0, 1, 2, 3, 4] rfl)
      have b406 : ∀ (w : Hp) (a1 : Nat) (a2 : Nat) (a3 : Nat) (x4 : Int32) (t0 : Int64) (t1 : Int64), wp_L_law_b406 L xs (fun w a1 a2 a3 x4 => lpN (wp_L_law_l23 L xs ) n23 (w, a1, a2, a3, x4)) w a1 a2 a3 x4 t0 t1 → ∀ (H : Heap) (locs : List Loc) (ls : Array Slot), hx_H G w s H locs → lv_has ls 9 [(0, va_rf (some b)), (1, va_rf (some a1)), (2, va_rf (some a2)), (3, va_rf (some a3)), (4, .int x4)] → W p l e room_1 s m args below meth c H locs (cl23 + 1) (sl23 + 6) Q (F0 m 406 ls [.long t0, .long t1]) := by
        intro w a1 a2 a3 x4 t0 t1 h H locs ls hH hl
        refine W.lcmp hx hb dL_law_406 ?_
        refine lv_if_eq hx hb dL_law_407 (tgt := 412) (by decide) (fun c_1 => ?_) (fun c_1 => ?_)
        · have h := h.1 c_1
          refine W.widen (k := cl23 + 1) (n := sl23 + 6) (by omega) (by omega) ?_
          exact b412 _ _ _ _ _ h _ _ _ hH (lv_sub hl [0, 1, 2, 3, 4] rfl)
        · have h := h.2 c_1
          refine lv_iconst (v := 0) hx hb dL_law_410 (by decide) ?_
          exact h.elim
      have b372 : ∀ (w : Hp) (a1 : Nat) (a2 : Nat) (a3 : Nat) (x4 : Int32) (x5 : Int32) (t0 : Int32) (t1 : Int32) (at2 : Nat), wp_L_law_b372 L xs (fun w a1 a2 a3 x4 => lpN (wp_L_law_l23 L xs ) n23 (w, a1, a2, a3, x4)) w a1 a2 a3 x4 x5 t0 t1 at2 → ∀ (H : Heap) (locs : List Loc) (ls : Array Slot), hx_H G w s H locs → lv_has ls 9 [(0, va_rf (some b)), (1, va_rf (some a1)), (2, va_rf (some a2)), (3, va_rf (some a3)), (4, .int x4), (5, .int x5)] → W p l e room_1 s m args below meth c H locs (cl23 + 1) (sl23 + 6) Q (F0 m 372 ls [.int t0, .int t1, va_rf (some at2)]) := by
        intro w a1 a2 a3 x4 x5 t0 t1 at2 h H locs ls hH hl
        obtain ⟨ho, h⟩ := h
        refine hx_Vi C0 hU hH (As := [.int t1, .int t0]) (wk_X4_load l h) (cwV 2 hts (lw_V q1179 q1180 q1181 q71 q1182) rfl rfl rfl (by decide +kernel) ⟨Nat.le_of_ble_eq_true rfl, Nat.le_of_ble_eq_true rfl⟩) (hx_recv hU hH (ci := 3) rfl ho) rfl hl.1 rfl (Nat.le_of_ble_eq_true rfl) dL_law_372 ⟨(show _ ≤ 1200144 by omega), (show _ ≤ 5497210 by omega)⟩ (fun i_1 w H locs hH h => ?_)
        refine lv_istore hx hb dL_law_375 hl (by decide) (lv' := [(6, .int i_1), (0, va_rf (some b)), (1, va_rf (some a1)), (2, va_rf (some a2)), (3, va_rf (some a3)), (4, .int x4), (5, .int x5)]) rfl (fun ls hl => ?_)
        refine hx_aload_n C0 dL_law_377 rfl (lv_at hl 3 rfl) ?_
        obtain ⟨ho, h⟩ := h
        refine hx_Vi C0 hU hH (As := []) (wk_X4_thrown l h) (cwV 0 hts (lw_V q1153 q1154 q1155 q71 q1156) rfl rfl rfl (by decide +kernel) ⟨Nat.le_of_ble_eq_true rfl, Nat.le_of_ble_eq_true rfl⟩) (hx_recv hU hH (ci := 3) rfl ho) rfl hl.1 rfl (Nat.le_of_ble_eq_true rfl) dL_law_378 ⟨(show _ ≤ 1200144 by omega), (show _ ≤ 5497210 by omega)⟩ (fun i_2 w H locs hH h => ?_)
        refine lv_iload hx hb dL_law_381 (lv_at hl 6 rfl) ?_
        refine lv_icmp_eq hx hb dL_law_383 (tgt := 388) (by decide) (fun c_3 => ?_) (fun c_3 => ?_)
        · have h := h.1 c_3
          refine lv_iload hx hb dL_law_388 (lv_at hl 6 rfl) ?_
          refine lv_if_ne hx hb dL_law_390 (tgt := 412) (by decide) (fun c_4 => ?_) (fun c_4 => ?_)
          · have h := h.2 c_4
            refine W.widen (k := cl23 + 1) (n := sl23 + 6) (by omega) (by omega) ?_
            exact b412 _ _ _ _ _ h _ _ _ hH (lv_sub hl [1, 2, 3, 4, 5] rfl)
          · have h := h.1 c_4
            refine hx_aload_n C0 dL_law_393 rfl (lv_at hl 4 rfl) ?_
            refine lv_iconst (v := 0) hx hb dL_law_394 (by decide) ?_
            refine hx_aJ C0 hU hH h dL_law_395 (fun l_5 h => ?_)
            refine lv_iload hx hb dL_law_396 (lv_at hl 0 rfl) ?_
            refine lv_if_eq hx hb dL_law_398 (tgt := 405) (by decide) (fun c_6 => ?_) (fun c_6 => ?_)
            · have h := h.1 c_6
              refine lv_lconst (v := 0) hx hb dL_law_405 (by decide) ?_
              refine W.widen (k := cl23 + 1) (n := sl23 + 6) (by omega) (by omega) ?_
              exact b406 _ _ _ _ _ _ _ h _ _ _ hH (lv_sub hl [1, 2, 3, 4, 5] rfl)
            · have h := h.2 c_6
              refine lv_lconst (v := 1) hx hb dL_law_401 (by decide) ?_
              refine lv_goto hx hb dL_law_402 (tgt := 406) (by decide) ?_
              refine W.widen (k := cl23 + 1) (n := sl23 + 6) (by omega) (by omega) ?_
              exact b406 _ _ _ _ _ _ _ h _ _ _ hH (lv_sub hl [1, 2, 3, 4, 5] rfl)
        · have h := h.2 c_3
          refine lv_iconst (v := 0) hx hb dL_law_386 (by decide) ?_
          exact h.elim
      have b345 : ∀ (w : Hp) (a1 : Nat) (a2 : Nat) (a3 : Nat) (x4 : Int32) (t0 : Int32) (t1 : Int32) (at2 : Nat), wp_L_law_b345 L xs (fun w a1 a2 a3 x4 => lpN (wp_L_law_l23 L xs ) n23 (w, a1, a2, a3, x4)) w a1 a2 a3 x4 t0 t1 at2 → ∀ (H : Heap) (locs : List Loc) (ls : Array Slot), hx_H G w s H locs → lv_has ls 9 [(0, va_rf (some b)), (1, va_rf (some a1)), (2, va_rf (some a2)), (3, va_rf (some a3)), (4, .int x4)] → W p l e room_1 s m args below meth c H locs (cl23 + 0) (sl23 + 0) Q (F0 m 345 ls [.int t0, .int t1, va_rf (some at2)]) := by
        intro w a1 a2 a3 x4 t0 t1 at2 h H locs ls hH hl
        refine hx_aload_n C0 dL_law_345 rfl (lv_at hl 3 rfl) ?_
        refine hx_SWi C0 hU hH (As := [va_rf (some at2), .int t1, .int t0, va_rf (some a3)]) (wk_X0_load l hst h) (vx_cwSW 4 hts (lw_SW q586 q587 q59 q588) rfl rfl rfl (by decide +kernel) ⟨Nat.le_of_ble_eq_true rfl, Nat.le_of_ble_eq_true rfl⟩) rfl hl.1 rfl (Nat.le_of_ble_eq_true rfl) dL_law_346 ⟨(show _ ≤ 1200144 by omega), (show _ ≤ 5497210 by omega)⟩ (fun i_1 w H locs hH h => ?_)
        refine lv_istore hx hb dL_law_349 hl (by decide) (lv' := [(5, .int i_1), (0, va_rf (some b)), (1, va_rf (some a1)), (2, va_rf (some a2)), (3, va_rf (some a3)), (4, .int x4)]) rfl (fun ls hl => ?_)
        refine hx_aload_n C0 dL_law_351 rfl (lv_at hl 3 rfl) ?_
        refine hx_aload_n C0 dL_law_352 rfl (lv_at hl 1 rfl) ?_
        refine lv_iload hx hb dL_law_353 (lv_at hl 5 rfl) ?_
        refine lv_iconst (v := 1) hx hb dL_law_355 (by decide) ?_
        refine lv_iadd hx hb dL_law_356 ?_
        obtain ⟨hg, h⟩ := h
        refine va_sld hx hb hX hbl hbA hH.2 hg dL_law_357 ?_
        refine lv_topi (fun i_2 ei_2 => ?_)
        have h := h i_2 ei_2
        refine hx_aload_n C0 dL_law_358 rfl (lv_at hl 1 rfl) ?_
        refine lv_iload hx hb dL_law_359 (lv_at hl 5 rfl) ?_
        refine lv_iconst (v := 2) hx hb dL_law_361 (by decide) ?_
        refine lv_iadd hx hb dL_law_362 ?_
        obtain ⟨hg, h⟩ := h
        refine va_sld hx hb hX hbl hbA hH.2 hg dL_law_363 ?_
        refine lv_topi (fun i_3 ei_3 => ?_)
        have h := h i_3 ei_3
        refine lv_if_eq hx hb dL_law_364 (tgt := 371) (by decide) (fun c_4 => ?_) (fun c_4 => ?_)
        · have h := h.1 c_4
          refine lv_iconst (v := 0) hx hb dL_law_371 (by decide) ?_
          refine W.widen (k := cl23 + 1) (n := sl23 + 6) (by omega) (by omega) ?_
          exact b372 _ _ _ _ _ _ _ _ _ h _ _ _ hH (lv_sub hl [1, 2, 3, 4, 5, 0] rfl)
        · have h := h.2 c_4
          refine lv_iconst (v := 1) hx hb dL_law_367 (by decide) ?_
          refine lv_goto hx hb dL_law_368 (tgt := 372) (by decide) ?_
          refine W.widen (k := cl23 + 1) (n := sl23 + 6) (by omega) (by omega) ?_
          exact b372 _ _ _ _ _ _ _ _ _ h _ _ _ hH (lv_sub hl [1, 2, 3, 4, 5, 0] rfl)
      have b321 : ∀ (w : Hp) (a1 : Nat) (a2 : Nat) (a3 : Nat) (x4 : Int32), wp_L_law_b321 L xs (fun w a1 a2 a3 x4 => lpN (wp_L_law_l23 L xs ) n23 (w, a1, a2, a3, x4)) w a1 a2 a3 x4 → ∀ (H : Heap) (locs : List Loc) (ls : Array Slot), hx_H G w s H locs → lv_has ls 9 [(0, va_rf (some b)), (1, va_rf (some a1)), (2, va_rf (some a2)), (3, va_rf (some a3)), (4, .int x4)] → W p l e room_1 s m args below meth c H locs (cl23 + 2) (sl23 + 12) Q (F0 m 321 ls []) := by
        intro w a1 a2 a3 x4 h H locs ls hH hl
        refine lv_goto hx hb dL_law_321 (tgt := 2529) (by decide) ?_
        refine W.widen (k := cl23 + 150) (n := sl23 + 16853) (by omega) (by omega) ?_
        exact b2529 _ _ _ _ _ h _ _ _ hH (lv_sub hl [0, 1, 2, 3, 4] rfl)
      have b253 : ∀ (w : Hp) (a1 : Nat) (a2 : Nat) (a3 : Nat) (x4 : Int32), wp_L_law_b253 L xs (fun w a1 a2 a3 x4 => lpN (wp_L_law_l23 L xs ) n23 (w, a1, a2, a3, x4)) w a1 a2 a3 x4 → ∀ (H : Heap) (locs : List Loc) (ls : Array Slot), hx_H G w s H locs → lv_has ls 9 [(0, va_rf (some b)), (1, va_rf (some a1)), (2, va_rf (some a2)), (3, va_rf (some a3)), (4, .int x4)] → W p l e room_1 s m args below meth c H locs (cl23 + 1) (sl23 + 6) Q (F0 m 253 ls []) := by
        intro w a1 a2 a3 x4 h H locs ls hH hl
        refine lv_goto hx hb dL_law_253 (tgt := 2529) (by decide) ?_
        refine W.widen (k := cl23 + 150) (n := sl23 + 16853) (by omega) (by omega) ?_
        exact b2529 _ _ _ _ _ h _ _ _ hH (lv_sub hl [0, 1, 2, 3, 4] rfl)
      refine lv_iload hx hb dL_law_23 (lv_at hl 4 rfl) ?_
      refine hx_aload_n C0 dL_law_25 rfl (lv_at hl 0 rfl) ?_
      refine va_slen hx hb hX hbl hbA hH.2 dL_law_26 ?_
      refine lv_iconst (v := 5) hx hb dL_law_27 (by decide) ?_
      refine lv_isub hx hb dL_law_28 ?_
      refine lv_icmp_gt hx hb dL_law_29 (tgt := 2535) (by decide) (fun c_1 => ?_) (fun c_1 => ?_)
      · have h := h.1 c_1
        refine lv_iconst (v := 1) hx hb dL_law_2535 (by decide) ?_
        exact kend 2536 w _ _ _ _ _ (by omega) (by omega) hH dL_law_2536
      · have h := h.2 c_1
        refine hx_aload_n C0 dL_law_32 rfl (lv_at hl 0 rfl) ?_
        refine lv_iload hx hb dL_law_33 (lv_at hl 4 rfl) ?_
        obtain ⟨hg, h⟩ := h
        refine va_sld hx hb hX hbl hbA hH.2 hg dL_law_35 ?_
        refine lv_topi (fun i_2 ei_2 => ?_)
        have h := h i_2 ei_2
        refine lv_bipush (v := 63) hx hb dL_law_36 (by decide) ?_
        refine lv_iand hx hb dL_law_38 ?_
        refine lv_topi (fun i_3 ei_3 => ?_)
        have h := h i_3 ei_3
        by_cases c_13 : i_3 = 0
        · have h := h.1 c_13
          have zc_13 : (i_3).toInt = 0 := by rw [c_13]; rfl
          refine lv_tableIn hx hb dL_law_39 (by rw [zc_13]; decide) (by rw [zc_13]; decide) (by rw [zc_13]; rfl) (tgt := 200) (by decide) ?_
          refine hx_aload_n C0 dL_law_200 rfl (lv_at hl 1 rfl) ?_
          refine hx_aload_n C0 dL_law_201 rfl (lv_at hl 0 rfl) ?_
          refine lv_iload hx hb dL_law_202 (lv_at hl 4 rfl) ?_
          refine lv_iconst (v := 1) hx hb dL_law_204 (by decide) ?_
          refine lv_iadd hx hb dL_law_205 ?_
          obtain ⟨hg, h⟩ := h
          refine va_sld hx hb hX hbl hbA hH.2 hg dL_law_206 ?_
          refine lv_topi (fun i_4 ei_4 => ?_)
          have h := h i_4 ei_4
          refine hx_aload_n C0 dL_law_207 rfl (lv_at hl 3 rfl) ?_
          refine hx_SWi C0 hU hH (As := [va_rf (some a1), .int i_4, va_rf (some a3)]) (wk_X0_pass l hst h) (vx_cwSW 3 hts (lw_SW q487 q488 q59 q489) rfl rfl rfl (by decide +kernel) ⟨Nat.le_of_ble_eq_true rfl, Nat.le_of_ble_eq_true rfl⟩) rfl hl.1 rfl (Nat.le_of_ble_eq_true rfl) dL_law_208 ⟨(show _ ≤ 1200144 by omega), (show _ ≤ 5497210 by omega)⟩ (fun i_5 w H locs hH h => ?_)
          refine lv_istore hx hb dL_law_211 hl (by decide) (lv' := [(5, .int i_5), (0, va_rf (some b)), (1, va_rf (some a1)), (2, va_rf (some a2)), (3, va_rf (some a3)), (4, .int x4)]) rfl (fun ls hl => ?_)
          refine hx_aload_n C0 dL_law_213 rfl (lv_at hl 3 rfl) ?_
          refine hx_aload_n C0 dL_law_214 rfl (lv_at hl 1 rfl) ?_
          refine lv_iload hx hb dL_law_215 (lv_at hl 5 rfl) ?_
          refine lv_iconst (v := 1) hx hb dL_law_217 (by decide) ?_
          refine lv_iadd hx hb dL_law_218 ?_
          obtain ⟨hg, h⟩ := h
          refine va_sld hx hb hX hbl hbA hH.2 hg dL_law_219 ?_
          refine lv_topi (fun i_6 ei_6 => ?_)
          have h := h i_6 ei_6
          obtain ⟨ho, h⟩ := h
          refine hx_Vi C0 hU hH (As := [.int i_6]) (wk_X4_pass l h) (cwV 1 hts (lw_V q1157 q1158 q1159 q71 q1160) rfl rfl rfl (by decide +kernel) ⟨Nat.le_of_ble_eq_true rfl, Nat.le_of_ble_eq_true rfl⟩) (hx_recv hU hH (ci := 3) rfl ho) rfl hl.1 rfl (Nat.le_of_ble_eq_true rfl) dL_law_220 ⟨(show _ ≤ 1200144 by omega), (show _ ≤ 5497210 by omega)⟩ (fun i_7 w H locs hH h => ?_)
          refine lv_istore hx hb dL_law_223 hl (by decide) (lv' := [(6, .int i_7), (5, .int i_5), (0, va_rf (some b)), (1, va_rf (some a1)), (2, va_rf (some a2)), (3, va_rf (some a3)), (4, .int x4)]) rfl (fun ls hl => ?_)
          refine hx_aload_n C0 dL_law_225 rfl (lv_at hl 4 rfl) ?_
          obtain ⟨ho, h⟩ := h
          refine hx_Vi C0 hU hH (As := []) (wk_X4_thrown l h) (cwV 0 hts (lw_V q1153 q1154 q1155 q71 q1156) rfl rfl rfl (by decide +kernel) ⟨Nat.le_of_ble_eq_true rfl, Nat.le_of_ble_eq_true rfl⟩) (hx_recv hU hH (ci := 3) rfl ho) rfl hl.1 rfl (Nat.le_of_ble_eq_true rfl) dL_law_226 ⟨(show _ ≤ 1200144 by omega), (show _ ≤ 5497210 by omega)⟩ (fun i_8 w H locs hH h => ?_)
          refine lv_iload hx hb dL_law_229 (lv_at hl 1 rfl) ?_
          refine lv_icmp_eq hx hb dL_law_231 (tgt := 236) (by decide) (fun c_9 => ?_) (fun c_9 => ?_)
          · have h := h.1 c_9
            refine lv_iload hx hb dL_law_236 (lv_at hl 1 rfl) ?_
            refine lv_if_ne hx hb dL_law_238 (tgt := 253) (by decide) (fun c_10 => ?_) (fun c_10 => ?_)
            · have h := h.2 c_10
              refine W.widen (k := cl23 + 1) (n := sl23 + 6) (by omega) (by omega) ?_
              exact b253 _ _ _ _ _ h _ _ _ hH (lv_sub hl [2, 3, 4, 5, 6] rfl)
            · have h := h.1 c_10
              refine hx_aload_n C0 dL_law_241 rfl (lv_at hl 5 rfl) ?_
              refine lv_iconst (v := 0) hx hb dL_law_242 (by decide) ?_
              refine hx_aJ C0 hU hH h dL_law_243 (fun l_11 h => ?_)
              refine lv_iload hx hb dL_law_244 (lv_at hl 0 rfl) ?_
              refine lv_i2l hx hb dL_law_246 rfl ?_
              refine W.lcmp hx hb dL_law_247 ?_
              refine lv_if_eq hx hb dL_law_248 (tgt := 253) (by decide) (fun c_12 => ?_) (fun c_12 => ?_)
              · have h := h.1 c_12
                refine W.widen (k := cl23 + 1) (n := sl23 + 6) (by omega) (by omega) ?_
                exact b253 _ _ _ _ _ h _ _ _ hH (lv_sub hl [2, 3, 4, 5, 6] rfl)
              · have h := h.2 c_12
                refine lv_iconst (v := 0) hx hb dL_law_251 (by decide) ?_
                exact h.elim
          · have h := h.2 c_9
            refine lv_iconst (v := 0) hx hb dL_law_234 (by decide) ?_
            exact h.elim
        have h := h.2 c_13
        have nc_13 : ¬ (i_3).toInt = 0 := hx_ni c_13 rfl
        by_cases c_25 : i_3 = 1
        · have h := h.1 c_25
          have zc_25 : (i_3).toInt = 1 := by rw [c_25]; rfl
          refine lv_tableIn hx hb dL_law_39 (by rw [zc_25]; decide) (by rw [zc_25]; decide) (by rw [zc_25]; rfl) (tgt := 256) (by decide) ?_
          refine hx_aload_n C0 dL_law_256 rfl (lv_at hl 1 rfl) ?_
          refine hx_aload_n C0 dL_law_257 rfl (lv_at hl 0 rfl) ?_
          refine lv_iload hx hb dL_law_258 (lv_at hl 4 rfl) ?_
          refine lv_iconst (v := 1) hx hb dL_law_260 (by decide) ?_
          refine lv_iadd hx hb dL_law_261 ?_
          obtain ⟨hg, h⟩ := h
          refine va_sld hx hb hX hbl hbA hH.2 hg dL_law_262 ?_
          refine lv_topi (fun i_14 ei_14 => ?_)
          have h := h i_14 ei_14
          refine hx_aload_n C0 dL_law_263 rfl (lv_at hl 0 rfl) ?_
          refine lv_iload hx hb dL_law_264 (lv_at hl 4 rfl) ?_
          refine lv_iconst (v := 2) hx hb dL_law_266 (by decide) ?_
          refine lv_iadd hx hb dL_law_267 ?_
          obtain ⟨hg, h⟩ := h
          refine va_sld hx hb hX hbl hbA hH.2 hg dL_law_268 ?_
          refine lv_topi (fun i_15 ei_15 => ?_)
          have h := h i_15 ei_15
          refine hx_aload_n C0 dL_law_269 rfl (lv_at hl 3 rfl) ?_
          refine hx_SWi C0 hU hH (As := [va_rf (some a1), .int i_14, .int i_15, va_rf (some a3)]) (wk_X0_move l hst h) (vx_cwSW 4 hts (lw_SW q538 q539 q59 q540) rfl rfl rfl (by decide +kernel) ⟨Nat.le_of_ble_eq_true rfl, Nat.le_of_ble_eq_true rfl⟩) rfl hl.1 rfl (Nat.le_of_ble_eq_true rfl) dL_law_270 ⟨(show _ ≤ 1200144 by omega), (show _ ≤ 5497210 by omega)⟩ (fun i_16 w H locs hH h => ?_)
          refine lv_istore hx hb dL_law_273 hl (by decide) (lv' := [(5, .int i_16), (0, va_rf (some b)), (1, va_rf (some a1)), (2, va_rf (some a2)), (3, va_rf (some a3)), (4, .int x4)]) rfl (fun ls hl => ?_)
          refine hx_aload_n C0 dL_law_275 rfl (lv_at hl 3 rfl) ?_
          refine hx_aload_n C0 dL_law_276 rfl (lv_at hl 1 rfl) ?_
          refine lv_iload hx hb dL_law_277 (lv_at hl 5 rfl) ?_
          refine lv_iconst (v := 1) hx hb dL_law_279 (by decide) ?_
          refine lv_iadd hx hb dL_law_280 ?_
          obtain ⟨hg, h⟩ := h
          refine va_sld hx hb hX hbl hbA hH.2 hg dL_law_281 ?_
          refine lv_topi (fun i_17 ei_17 => ?_)
          have h := h i_17 ei_17
          refine hx_aload_n C0 dL_law_282 rfl (lv_at hl 1 rfl) ?_
          refine lv_iload hx hb dL_law_283 (lv_at hl 5 rfl) ?_
          refine lv_iconst (v := 2) hx hb dL_law_285 (by decide) ?_
          refine lv_iadd hx hb dL_law_286 ?_
          obtain ⟨hg, h⟩ := h
          refine va_sld hx hb hX hbl hbA hH.2 hg dL_law_287 ?_
          refine lv_topi (fun i_18 ei_18 => ?_)
          have h := h i_18 ei_18
          obtain ⟨ho, h⟩ := h
          refine hx_Vi C0 hU hH (As := [.int i_17, .int i_18]) (wk_X4_move l h) (cwV 2 hts (lw_V q1170 q1171 q1172 q71 q1173) rfl rfl rfl (by decide +kernel) ⟨Nat.le_of_ble_eq_true rfl, Nat.le_of_ble_eq_true rfl⟩) (hx_recv hU hH (ci := 3) rfl ho) rfl hl.1 rfl (Nat.le_of_ble_eq_true rfl) dL_law_288 ⟨(show _ ≤ 1200144 by omega), (show _ ≤ 5497210 by omega)⟩ (fun i_19 w H locs hH h => ?_)
          refine lv_istore hx hb dL_law_291 hl (by decide) (lv' := [(6, .int i_19), (5, .int i_16), (0, va_rf (some b)), (1, va_rf (some a1)), (2, va_rf (some a2)), (3, va_rf (some a3)), (4, .int x4)]) rfl (fun ls hl => ?_)
          refine hx_aload_n C0 dL_law_293 rfl (lv_at hl 4 rfl) ?_
          obtain ⟨ho, h⟩ := h
          refine hx_Vi C0 hU hH (As := []) (wk_X4_thrown l h) (cwV 0 hts (lw_V q1153 q1154 q1155 q71 q1156) rfl rfl rfl (by decide +kernel) ⟨Nat.le_of_ble_eq_true rfl, Nat.le_of_ble_eq_true rfl⟩) (hx_recv hU hH (ci := 3) rfl ho) rfl hl.1 rfl (Nat.le_of_ble_eq_true rfl) dL_law_294 ⟨(show _ ≤ 1200144 by omega), (show _ ≤ 5497210 by omega)⟩ (fun i_20 w H locs hH h => ?_)
          refine lv_iload hx hb dL_law_297 (lv_at hl 1 rfl) ?_
          refine lv_icmp_eq hx hb dL_law_299 (tgt := 304) (by decide) (fun c_21 => ?_) (fun c_21 => ?_)
          · have h := h.1 c_21
            refine lv_iload hx hb dL_law_304 (lv_at hl 1 rfl) ?_
            refine lv_if_ne hx hb dL_law_306 (tgt := 321) (by decide) (fun c_22 => ?_) (fun c_22 => ?_)
            · have h := h.2 c_22
              refine W.widen (k := cl23 + 2) (n := sl23 + 12) (by omega) (by omega) ?_
              exact b321 _ _ _ _ _ h _ _ _ hH (lv_sub hl [2, 3, 4, 5, 6] rfl)
            · have h := h.1 c_22
              refine hx_aload_n C0 dL_law_309 rfl (lv_at hl 5 rfl) ?_
              refine lv_iconst (v := 0) hx hb dL_law_310 (by decide) ?_
              refine hx_aJ C0 hU hH h dL_law_311 (fun l_23 h => ?_)
              refine lv_iload hx hb dL_law_312 (lv_at hl 0 rfl) ?_
              refine lv_i2l hx hb dL_law_314 rfl ?_
              refine W.lcmp hx hb dL_law_315 ?_
              refine lv_if_eq hx hb dL_law_316 (tgt := 321) (by decide) (fun c_24 => ?_) (fun c_24 => ?_)
              · have h := h.1 c_24
                refine W.widen (k := cl23 + 2) (n := sl23 + 12) (by omega) (by omega) ?_
                exact b321 _ _ _ _ _ h _ _ _ hH (lv_sub hl [2, 3, 4, 5, 6] rfl)
              · have h := h.2 c_24
                refine lv_iconst (v := 0) hx hb dL_law_319 (by decide) ?_
                exact h.elim
          · have h := h.2 c_21
            refine lv_iconst (v := 0) hx hb dL_law_302 (by decide) ?_
            exact h.elim
        have h := h.2 c_25
        have nc_25 : ¬ (i_3).toInt = 1 := hx_ni c_25 rfl
        by_cases c_29 : i_3 = 2
        · have h := h.1 c_29
          have zc_29 : (i_3).toInt = 2 := by rw [c_29]; rfl
          refine lv_tableIn hx hb dL_law_39 (by rw [zc_29]; decide) (by rw [zc_29]; decide) (by rw [zc_29]; rfl) (tgt := 324) (by decide) ?_
          refine hx_aload_n C0 dL_law_324 rfl (lv_at hl 1 rfl) ?_
          refine hx_aload_n C0 dL_law_325 rfl (lv_at hl 0 rfl) ?_
          refine lv_iload hx hb dL_law_326 (lv_at hl 4 rfl) ?_
          refine lv_iconst (v := 1) hx hb dL_law_328 (by decide) ?_
          refine lv_iadd hx hb dL_law_329 ?_
          obtain ⟨hg, h⟩ := h
          refine va_sld hx hb hX hbl hbA hH.2 hg dL_law_330 ?_
          refine lv_topi (fun i_26 ei_26 => ?_)
          have h := h i_26 ei_26
          refine hx_aload_n C0 dL_law_331 rfl (lv_at hl 0 rfl) ?_
          refine lv_iload hx hb dL_law_332 (lv_at hl 4 rfl) ?_
          refine lv_iconst (v := 2) hx hb dL_law_334 (by decide) ?_
          refine lv_iadd hx hb dL_law_335 ?_
          obtain ⟨hg, h⟩ := h
          refine va_sld hx hb hX hbl hbA hH.2 hg dL_law_336 ?_
          refine lv_topi (fun i_27 ei_27 => ?_)
          have h := h i_27 ei_27
          refine lv_if_eq hx hb dL_law_337 (tgt := 344) (by decide) (fun c_28 => ?_) (fun c_28 => ?_)
          · have h := h.1 c_28
            refine lv_iconst (v := 0) hx hb dL_law_344 (by decide) ?_
            refine W.widen (k := cl23 + 0) (n := sl23 + 0) (by omega) (by omega) ?_
            exact b345 _ _ _ _ _ _ _ _ h _ _ _ hH (lv_sub hl [0, 1, 2, 3, 4] rfl)
          · have h := h.2 c_28
            refine lv_iconst (v := 1) hx hb dL_law_340 (by decide) ?_
            refine lv_goto hx hb dL_law_341 (tgt := 345) (by decide) ?_
            refine W.widen (k := cl23 + 0) (n := sl23 + 0) (by omega) (by omega) ?_
            exact b345 _ _ _ _ _ _ _ _ h _ _ _ hH (lv_sub hl [0, 1, 2, 3, 4] rfl)
        have h := h.2 c_29
        have nc_29 : ¬ (i_3).toInt = 2 := hx_ni c_29 rfl
        by_cases c_45 : i_3 = 3
        · have h := h.1 c_45
          have zc_45 : (i_3).toInt = 3 := by rw [c_45]; rfl
          refine lv_tableIn hx hb dL_law_39 (by rw [zc_45]; decide) (by rw [zc_45]; decide) (by rw [zc_45]; rfl) (tgt := 415) (by decide) ?_
          refine hx_aload_n C0 dL_law_415 rfl (lv_at hl 1 rfl) ?_
          refine hx_aload_n C0 dL_law_416 rfl (lv_at hl 0 rfl) ?_
          refine lv_iload hx hb dL_law_417 (lv_at hl 4 rfl) ?_
          refine lv_iconst (v := 1) hx hb dL_law_419 (by decide) ?_
          refine lv_iadd hx hb dL_law_420 ?_
          obtain ⟨hg, h⟩ := h
          refine va_sld hx hb hX hbl hbA hH.2 hg dL_law_421 ?_
          refine lv_topi (fun i_30 ei_30 => ?_)
          have h := h i_30 ei_30
          refine hx_aload_n C0 dL_law_422 rfl (lv_at hl 0 rfl) ?_
          refine lv_iload hx hb dL_law_423 (lv_at hl 4 rfl) ?_
          refine lv_iconst (v := 2) hx hb dL_law_425 (by decide) ?_
          refine lv_iadd hx hb dL_law_426 ?_
          obtain ⟨hg, h⟩ := h
          refine va_sld hx hb hX hbl hbA hH.2 hg dL_law_427 ?_
          refine lv_topi (fun i_31 ei_31 => ?_)
          have h := h i_31 ei_31
          refine hx_aload_n C0 dL_law_428 rfl (lv_at hl 0 rfl) ?_
          refine lv_iload hx hb dL_law_429 (lv_at hl 4 rfl) ?_
          refine lv_iconst (v := 3) hx hb dL_law_431 (by decide) ?_
          refine lv_iadd hx hb dL_law_432 ?_
          obtain ⟨hg, h⟩ := h
          refine va_sld hx hb hX hbl hbA hH.2 hg dL_law_433 ?_
          refine lv_topi (fun i_32 ei_32 => ?_)
          have h := h i_32 ei_32
          refine hx_aload_n C0 dL_law_434 rfl (lv_at hl 0 rfl) ?_
          refine lv_iload hx hb dL_law_435 (lv_at hl 4 rfl) ?_
          refine lv_iconst (v := 4) hx hb dL_law_437 (by decide) ?_
          refine lv_iadd hx hb dL_law_438 ?_
          obtain ⟨hg, h⟩ := h
          refine va_sld hx hb hX hbl hbA hH.2 hg dL_law_439 ?_
          refine lv_topi (fun i_33 ei_33 => ?_)
          have h := h i_33 ei_33
          refine hx_aload_n C0 dL_law_440 rfl (lv_at hl 3 rfl) ?_
          refine hx_SWi C0 hU hH (As := [va_rf (some a1), .int i_30, .int i_31, .int i_32, .int i_33, va_rf (some a3)]) (wk_X0_allow l hst h) (vx_cwSW 6 hts (lw_SW q593 q594 q59 q595) rfl rfl rfl (by decide +kernel) ⟨Nat.le_of_ble_eq_true rfl, Nat.le_of_ble_eq_true rfl⟩) rfl hl.1 rfl (Nat.le_of_ble_eq_true rfl) dL_law_441 ⟨(show _ ≤ 1200144 by omega), (show _ ≤ 5497210 by omega)⟩ (fun i_34 w H locs hH h => ?_)
          refine lv_istore hx hb dL_law_444 hl (by decide) (lv' := [(5, .int i_34), (0, va_rf (some b)), (1, va_rf (some a1)), (2, va_rf (some a2)), (3, va_rf (some a3)), (4, .int x4)]) rfl (fun ls hl => ?_)
          refine hx_aload_n C0 dL_law_446 rfl (lv_at hl 3 rfl) ?_
          refine hx_aload_n C0 dL_law_447 rfl (lv_at hl 1 rfl) ?_
          refine lv_iload hx hb dL_law_448 (lv_at hl 5 rfl) ?_
          refine lv_iconst (v := 1) hx hb dL_law_450 (by decide) ?_
          refine lv_iadd hx hb dL_law_451 ?_
          obtain ⟨hg, h⟩ := h
          refine va_sld hx hb hX hbl hbA hH.2 hg dL_law_452 ?_
          refine lv_topi (fun i_35 ei_35 => ?_)
          have h := h i_35 ei_35
          refine hx_aload_n C0 dL_law_453 rfl (lv_at hl 1 rfl) ?_
          refine lv_iload hx hb dL_law_454 (lv_at hl 5 rfl) ?_
          refine lv_iconst (v := 2) hx hb dL_law_456 (by decide) ?_
          refine lv_iadd hx hb dL_law_457 ?_
          obtain ⟨hg, h⟩ := h
          refine va_sld hx hb hX hbl hbA hH.2 hg dL_law_458 ?_
          refine lv_topi (fun i_36 ei_36 => ?_)
          have h := h i_36 ei_36
          refine hx_aload_n C0 dL_law_459 rfl (lv_at hl 1 rfl) ?_
          refine lv_iload hx hb dL_law_460 (lv_at hl 5 rfl) ?_
          refine lv_iconst (v := 3) hx hb dL_law_462 (by decide) ?_
          refine lv_iadd hx hb dL_law_463 ?_
          obtain ⟨hg, h⟩ := h
          refine va_sld hx hb hX hbl hbA hH.2 hg dL_law_464 ?_
          refine lv_topi (fun i_37 ei_37 => ?_)
          have h := h i_37 ei_37
          refine hx_aload_n C0 dL_law_465 rfl (lv_at hl 1 rfl) ?_
          refine lv_iload hx hb dL_law_466 (lv_at hl 5 rfl) ?_
          refine lv_iconst (v := 4) hx hb dL_law_468 (by decide) ?_
          refine lv_iadd hx hb dL_law_469 ?_
          obtain ⟨hg, h⟩ := h
          refine va_sld hx hb hX hbl hbA hH.2 hg dL_law_470 ?_
          refine lv_topi (fun i_38 ei_38 => ?_)
          have h := h i_38 ei_38
          obtain ⟨ho, h⟩ := h
          refine hx_Vi C0 hU hH (As := [.int i_35, .int i_36, .int i_37, .int i_38]) (wk_X4_allow l h) (cwV 4 hts (lw_V q1183 q1184 q1185 q71 q1186) rfl rfl rfl (by decide +kernel) ⟨Nat.le_of_ble_eq_true rfl, Nat.le_of_ble_eq_true rfl⟩) (hx_recv hU hH (ci := 3) rfl ho) rfl hl.1 rfl (Nat.le_of_ble_eq_true rfl) dL_law_471 ⟨(show _ ≤ 1200144 by omega), (show _ ≤ 5497210 by omega)⟩ (fun i_39 w H locs hH h => ?_)
          refine lv_istore hx hb dL_law_474 hl (by decide) (lv' := [(6, .int i_39), (5, .int i_34), (0, va_rf (some b)), (1, va_rf (some a1)), (2, va_rf (some a2)), (3, va_rf (some a3)), (4, .int x4)]) rfl (fun ls hl => ?_)
          refine hx_aload_n C0 dL_law_476 rfl (lv_at hl 4 rfl) ?_
          obtain ⟨ho, h⟩ := h
          refine hx_Vi C0 hU hH (As := []) (wk_X4_thrown l h) (cwV 0 hts (lw_V q1153 q1154 q1155 q71 q1156) rfl rfl rfl (by decide +kernel) ⟨Nat.le_of_ble_eq_true rfl, Nat.le_of_ble_eq_true rfl⟩) (hx_recv hU hH (ci := 3) rfl ho) rfl hl.1 rfl (Nat.le_of_ble_eq_true rfl) dL_law_477 ⟨(show _ ≤ 1200144 by omega), (show _ ≤ 5497210 by omega)⟩ (fun i_40 w H locs hH h => ?_)
          refine lv_iload hx hb dL_law_480 (lv_at hl 1 rfl) ?_
          refine lv_icmp_eq hx hb dL_law_482 (tgt := 487) (by decide) (fun c_41 => ?_) (fun c_41 => ?_)
          · have h := h.1 c_41
            refine lv_iload hx hb dL_law_487 (lv_at hl 1 rfl) ?_
            refine lv_if_ne hx hb dL_law_489 (tgt := 504) (by decide) (fun c_42 => ?_) (fun c_42 => ?_)
            · have h := h.2 c_42
              refine W.widen (k := cl23 + 4) (n := sl23 + 21) (by omega) (by omega) ?_
              exact b504 _ _ _ _ _ h _ _ _ hH (lv_sub hl [2, 3, 4, 5, 6] rfl)
            · have h := h.1 c_42
              refine hx_aload_n C0 dL_law_492 rfl (lv_at hl 5 rfl) ?_
              refine lv_iconst (v := 0) hx hb dL_law_493 (by decide) ?_
              refine hx_aJ C0 hU hH h dL_law_494 (fun l_43 h => ?_)
              refine lv_iload hx hb dL_law_495 (lv_at hl 0 rfl) ?_
              refine lv_i2l hx hb dL_law_497 rfl ?_
              refine W.lcmp hx hb dL_law_498 ?_
              refine lv_if_eq hx hb dL_law_499 (tgt := 504) (by decide) (fun c_44 => ?_) (fun c_44 => ?_)
              · have h := h.1 c_44
                refine W.widen (k := cl23 + 4) (n := sl23 + 21) (by omega) (by omega) ?_
                exact b504 _ _ _ _ _ h _ _ _ hH (lv_sub hl [2, 3, 4, 5, 6] rfl)
              · have h := h.2 c_44
                refine lv_iconst (v := 0) hx hb dL_law_502 (by decide) ?_
                exact h.elim
          · have h := h.2 c_41
            refine lv_iconst (v := 0) hx hb dL_law_485 (by decide) ?_
            exact h.elim
        have h := h.2 c_45
        have nc_45 : ¬ (i_3).toInt = 3 := hx_ni c_45 rfl
        by_cases c_59 : i_3 = 4
        · have h := h.1 c_59
          have zc_59 : (i_3).toInt = 4 := by rw [c_59]; rfl
          refine lv_tableIn hx hb dL_law_39 (by rw [zc_59]; decide) (by rw [zc_59]; decide) (by rw [zc_59]; rfl) (tgt := 507) (by decide) ?_
          refine hx_aload_n C0 dL_law_507 rfl (lv_at hl 1 rfl) ?_
          refine hx_aload_n C0 dL_law_508 rfl (lv_at hl 0 rfl) ?_
          refine lv_iload hx hb dL_law_509 (lv_at hl 4 rfl) ?_
          refine lv_iconst (v := 1) hx hb dL_law_511 (by decide) ?_
          refine lv_iadd hx hb dL_law_512 ?_
          obtain ⟨hg, h⟩ := h
          refine va_sld hx hb hX hbl hbA hH.2 hg dL_law_513 ?_
          refine lv_topi (fun i_46 ei_46 => ?_)
          have h := h i_46 ei_46
          refine hx_aload_n C0 dL_law_514 rfl (lv_at hl 0 rfl) ?_
          refine lv_iload hx hb dL_law_515 (lv_at hl 4 rfl) ?_
          refine lv_iconst (v := 2) hx hb dL_law_517 (by decide) ?_
          refine lv_iadd hx hb dL_law_518 ?_
          obtain ⟨hg, h⟩ := h
          refine va_sld hx hb hX hbl hbA hH.2 hg dL_law_519 ?_
          refine lv_topi (fun i_47 ei_47 => ?_)
          have h := h i_47 ei_47
          refine hx_aload_n C0 dL_law_520 rfl (lv_at hl 0 rfl) ?_
          refine lv_iload hx hb dL_law_521 (lv_at hl 4 rfl) ?_
          refine lv_iconst (v := 3) hx hb dL_law_523 (by decide) ?_
          refine lv_iadd hx hb dL_law_524 ?_
          obtain ⟨hg, h⟩ := h
          refine va_sld hx hb hX hbl hbA hH.2 hg dL_law_525 ?_
          refine lv_topi (fun i_48 ei_48 => ?_)
          have h := h i_48 ei_48
          refine hx_aload_n C0 dL_law_526 rfl (lv_at hl 3 rfl) ?_
          refine hx_SWi C0 hU hH (As := [va_rf (some a1), .int i_46, .int i_47, .int i_48, va_rf (some a3)]) (wk_X0_forbid l hst h) (vx_cwSW 5 hts (lw_SW q609 q610 q59 q611) rfl rfl rfl (by decide +kernel) ⟨Nat.le_of_ble_eq_true rfl, Nat.le_of_ble_eq_true rfl⟩) rfl hl.1 rfl (Nat.le_of_ble_eq_true rfl) dL_law_527 ⟨(show _ ≤ 1200144 by omega), (show _ ≤ 5497210 by omega)⟩ (fun i_49 w H locs hH h => ?_)
          refine lv_istore hx hb dL_law_530 hl (by decide) (lv' := [(5, .int i_49), (0, va_rf (some b)), (1, va_rf (some a1)), (2, va_rf (some a2)), (3, va_rf (some a3)), (4, .int x4)]) rfl (fun ls hl => ?_)
          refine hx_aload_n C0 dL_law_532 rfl (lv_at hl 3 rfl) ?_
          refine hx_aload_n C0 dL_law_533 rfl (lv_at hl 1 rfl) ?_
          refine lv_iload hx hb dL_law_534 (lv_at hl 5 rfl) ?_
          refine lv_iconst (v := 1) hx hb dL_law_536 (by decide) ?_
          refine lv_iadd hx hb dL_law_537 ?_
          obtain ⟨hg, h⟩ := h
          refine va_sld hx hb hX hbl hbA hH.2 hg dL_law_538 ?_
          refine lv_topi (fun i_50 ei_50 => ?_)
          have h := h i_50 ei_50
          refine hx_aload_n C0 dL_law_539 rfl (lv_at hl 1 rfl) ?_
          refine lv_iload hx hb dL_law_540 (lv_at hl 5 rfl) ?_
          refine lv_iconst (v := 2) hx hb dL_law_542 (by decide) ?_
          refine lv_iadd hx hb dL_law_543 ?_
          obtain ⟨hg, h⟩ := h
          refine va_sld hx hb hX hbl hbA hH.2 hg dL_law_544 ?_
          refine lv_topi (fun i_51 ei_51 => ?_)
          have h := h i_51 ei_51
          refine hx_aload_n C0 dL_law_545 rfl (lv_at hl 1 rfl) ?_
          refine lv_iload hx hb dL_law_546 (lv_at hl 5 rfl) ?_
          refine lv_iconst (v := 3) hx hb dL_law_548 (by decide) ?_
          refine lv_iadd hx hb dL_law_549 ?_
          obtain ⟨hg, h⟩ := h
          refine va_sld hx hb hX hbl hbA hH.2 hg dL_law_550 ?_
          refine lv_topi (fun i_52 ei_52 => ?_)
          have h := h i_52 ei_52
          obtain ⟨ho, h⟩ := h
          refine hx_Vi C0 hU hH (As := [.int i_50, .int i_51, .int i_52]) (wk_X4_forbid l h) (cwV 3 hts (lw_V q1199 q1200 q1201 q71 q1202) rfl rfl rfl (by decide +kernel) ⟨Nat.le_of_ble_eq_true rfl, Nat.le_of_ble_eq_true rfl⟩) (hx_recv hU hH (ci := 3) rfl ho) rfl hl.1 rfl (Nat.le_of_ble_eq_true rfl) dL_law_551 ⟨(show _ ≤ 1200144 by omega), (show _ ≤ 5497210 by omega)⟩ (fun i_53 w H locs hH h => ?_)
          refine lv_istore hx hb dL_law_554 hl (by decide) (lv' := [(6, .int i_53), (5, .int i_49), (0, va_rf (some b)), (1, va_rf (some a1)), (2, va_rf (some a2)), (3, va_rf (some a3)), (4, .int x4)]) rfl (fun ls hl => ?_)
          refine hx_aload_n C0 dL_law_556 rfl (lv_at hl 4 rfl) ?_
          obtain ⟨ho, h⟩ := h
          refine hx_Vi C0 hU hH (As := []) (wk_X4_thrown l h) (cwV 0 hts (lw_V q1153 q1154 q1155 q71 q1156) rfl rfl rfl (by decide +kernel) ⟨Nat.le_of_ble_eq_true rfl, Nat.le_of_ble_eq_true rfl⟩) (hx_recv hU hH (ci := 3) rfl ho) rfl hl.1 rfl (Nat.le_of_ble_eq_true rfl) dL_law_557 ⟨(show _ ≤ 1200144 by omega), (show _ ≤ 5497210 by omega)⟩ (fun i_54 w H locs hH h => ?_)
          refine lv_iload hx hb dL_law_560 (lv_at hl 1 rfl) ?_
          refine lv_icmp_eq hx hb dL_law_562 (tgt := 567) (by decide) (fun c_55 => ?_) (fun c_55 => ?_)
          · have h := h.1 c_55
            refine lv_iload hx hb dL_law_567 (lv_at hl 1 rfl) ?_
            refine lv_if_ne hx hb dL_law_569 (tgt := 584) (by decide) (fun c_56 => ?_) (fun c_56 => ?_)
            · have h := h.2 c_56
              refine W.widen (k := cl23 + 2) (n := sl23 + 12) (by omega) (by omega) ?_
              exact b584 _ _ _ _ _ h _ _ _ hH (lv_sub hl [2, 3, 4, 5, 6] rfl)
            · have h := h.1 c_56
              refine hx_aload_n C0 dL_law_572 rfl (lv_at hl 5 rfl) ?_
              refine lv_iconst (v := 0) hx hb dL_law_573 (by decide) ?_
              refine hx_aJ C0 hU hH h dL_law_574 (fun l_57 h => ?_)
              refine lv_iload hx hb dL_law_575 (lv_at hl 0 rfl) ?_
              refine lv_i2l hx hb dL_law_577 rfl ?_
              refine W.lcmp hx hb dL_law_578 ?_
              refine lv_if_eq hx hb dL_law_579 (tgt := 584) (by decide) (fun c_58 => ?_) (fun c_58 => ?_)
              · have h := h.1 c_58
                refine W.widen (k := cl23 + 2) (n := sl23 + 12) (by omega) (by omega) ?_
                exact b584 _ _ _ _ _ h _ _ _ hH (lv_sub hl [2, 3, 4, 5, 6] rfl)
              · have h := h.2 c_58
                refine lv_iconst (v := 0) hx hb dL_law_582 (by decide) ?_
                exact h.elim
          · have h := h.2 c_55
            refine lv_iconst (v := 0) hx hb dL_law_565 (by decide) ?_
            exact h.elim
        have h := h.2 c_59
        have nc_59 : ¬ (i_3).toInt = 4 := hx_ni c_59 rfl
        by_cases c_75 : i_3 = 5
        · have h := h.1 c_75
          have zc_75 : (i_3).toInt = 5 := by rw [c_75]; rfl
          refine lv_tableIn hx hb dL_law_39 (by rw [zc_75]; decide) (by rw [zc_75]; decide) (by rw [zc_75]; rfl) (tgt := 587) (by decide) ?_
          refine hx_aload_n C0 dL_law_587 rfl (lv_at hl 1 rfl) ?_
          refine hx_aload_n C0 dL_law_588 rfl (lv_at hl 0 rfl) ?_
          refine lv_iload hx hb dL_law_589 (lv_at hl 4 rfl) ?_
          refine lv_iconst (v := 1) hx hb dL_law_591 (by decide) ?_
          refine lv_iadd hx hb dL_law_592 ?_
          obtain ⟨hg, h⟩ := h
          refine va_sld hx hb hX hbl hbA hH.2 hg dL_law_593 ?_
          refine lv_topi (fun i_60 ei_60 => ?_)
          have h := h i_60 ei_60
          refine hx_aload_n C0 dL_law_594 rfl (lv_at hl 0 rfl) ?_
          refine lv_iload hx hb dL_law_595 (lv_at hl 4 rfl) ?_
          refine lv_iconst (v := 2) hx hb dL_law_597 (by decide) ?_
          refine lv_iadd hx hb dL_law_598 ?_
          obtain ⟨hg, h⟩ := h
          refine va_sld hx hb hX hbl hbA hH.2 hg dL_law_599 ?_
          refine lv_topi (fun i_61 ei_61 => ?_)
          have h := h i_61 ei_61
          refine hx_aload_n C0 dL_law_600 rfl (lv_at hl 0 rfl) ?_
          refine lv_iload hx hb dL_law_601 (lv_at hl 4 rfl) ?_
          refine lv_iconst (v := 3) hx hb dL_law_603 (by decide) ?_
          refine lv_iadd hx hb dL_law_604 ?_
          obtain ⟨hg, h⟩ := h
          refine va_sld hx hb hX hbl hbA hH.2 hg dL_law_605 ?_
          refine lv_topi (fun i_62 ei_62 => ?_)
          have h := h i_62 ei_62
          refine hx_aload_n C0 dL_law_606 rfl (lv_at hl 0 rfl) ?_
          refine lv_iload hx hb dL_law_607 (lv_at hl 4 rfl) ?_
          refine lv_iconst (v := 4) hx hb dL_law_609 (by decide) ?_
          refine lv_iadd hx hb dL_law_610 ?_
          obtain ⟨hg, h⟩ := h
          refine va_sld hx hb hX hbl hbA hH.2 hg dL_law_611 ?_
          refine lv_topi (fun i_63 ei_63 => ?_)
          have h := h i_63 ei_63
          refine hx_aload_n C0 dL_law_612 rfl (lv_at hl 3 rfl) ?_
          refine hx_SWi C0 hU hH (As := [va_rf (some a1), .int i_60, .int i_61, .int i_62, .int i_63, va_rf (some a3)]) (wk_X0_send l hst h) (vx_cwSW 6 hts (lw_SW q622 q623 q59 q624) rfl rfl rfl (by decide +kernel) ⟨Nat.le_of_ble_eq_true rfl, Nat.le_of_ble_eq_true rfl⟩) rfl hl.1 rfl (Nat.le_of_ble_eq_true rfl) dL_law_613 ⟨(show _ ≤ 1200144 by omega), (show _ ≤ 5497210 by omega)⟩ (fun i_64 w H locs hH h => ?_)
          refine lv_istore hx hb dL_law_616 hl (by decide) (lv' := [(5, .int i_64), (0, va_rf (some b)), (1, va_rf (some a1)), (2, va_rf (some a2)), (3, va_rf (some a3)), (4, .int x4)]) rfl (fun ls hl => ?_)
          refine hx_aload_n C0 dL_law_618 rfl (lv_at hl 3 rfl) ?_
          refine hx_aload_n C0 dL_law_619 rfl (lv_at hl 1 rfl) ?_
          refine lv_iload hx hb dL_law_620 (lv_at hl 5 rfl) ?_
          refine lv_iconst (v := 1) hx hb dL_law_622 (by decide) ?_
          refine lv_iadd hx hb dL_law_623 ?_
          obtain ⟨hg, h⟩ := h
          refine va_sld hx hb hX hbl hbA hH.2 hg dL_law_624 ?_
          refine lv_topi (fun i_65 ei_65 => ?_)
          have h := h i_65 ei_65
          refine hx_aload_n C0 dL_law_625 rfl (lv_at hl 1 rfl) ?_
          refine lv_iload hx hb dL_law_626 (lv_at hl 5 rfl) ?_
          refine lv_iconst (v := 2) hx hb dL_law_628 (by decide) ?_
          refine lv_iadd hx hb dL_law_629 ?_
          obtain ⟨hg, h⟩ := h
          refine va_sld hx hb hX hbl hbA hH.2 hg dL_law_630 ?_
          refine lv_topi (fun i_66 ei_66 => ?_)
          have h := h i_66 ei_66
          refine hx_aload_n C0 dL_law_631 rfl (lv_at hl 1 rfl) ?_
          refine lv_iload hx hb dL_law_632 (lv_at hl 5 rfl) ?_
          refine lv_iconst (v := 3) hx hb dL_law_634 (by decide) ?_
          refine lv_iadd hx hb dL_law_635 ?_
          obtain ⟨hg, h⟩ := h
          refine va_sld hx hb hX hbl hbA hH.2 hg dL_law_636 ?_
          refine lv_topi (fun i_67 ei_67 => ?_)
          have h := h i_67 ei_67
          refine hx_aload_n C0 dL_law_637 rfl (lv_at hl 1 rfl) ?_
          refine lv_iload hx hb dL_law_638 (lv_at hl 5 rfl) ?_
          refine lv_iconst (v := 4) hx hb dL_law_640 (by decide) ?_
          refine lv_iadd hx hb dL_law_641 ?_
          obtain ⟨hg, h⟩ := h
          refine va_sld hx hb hX hbl hbA hH.2 hg dL_law_642 ?_
          refine lv_topi (fun i_68 ei_68 => ?_)
          have h := h i_68 ei_68
          obtain ⟨ho, h⟩ := h
          refine hx_Vi C0 hU hH (As := [.int i_65, .int i_66, .int i_67, .int i_68]) (wk_X4_send l h) (cwV 4 hts (lw_V q1203 q1204 q1205 q71 q1206) rfl rfl rfl (by decide +kernel) ⟨Nat.le_of_ble_eq_true rfl, Nat.le_of_ble_eq_true rfl⟩) (hx_recv hU hH (ci := 3) rfl ho) rfl hl.1 rfl (Nat.le_of_ble_eq_true rfl) dL_law_643 ⟨(show _ ≤ 1200144 by omega), (show _ ≤ 5497210 by omega)⟩ (fun i_69 w H locs hH h => ?_)
          refine lv_istore hx hb dL_law_646 hl (by decide) (lv' := [(6, .int i_69), (5, .int i_64), (0, va_rf (some b)), (1, va_rf (some a1)), (2, va_rf (some a2)), (3, va_rf (some a3)), (4, .int x4)]) rfl (fun ls hl => ?_)
          refine hx_aload_n C0 dL_law_648 rfl (lv_at hl 4 rfl) ?_
          obtain ⟨ho, h⟩ := h
          refine hx_Vi C0 hU hH (As := []) (wk_X4_thrown l h) (cwV 0 hts (lw_V q1153 q1154 q1155 q71 q1156) rfl rfl rfl (by decide +kernel) ⟨Nat.le_of_ble_eq_true rfl, Nat.le_of_ble_eq_true rfl⟩) (hx_recv hU hH (ci := 3) rfl ho) rfl hl.1 rfl (Nat.le_of_ble_eq_true rfl) dL_law_649 ⟨(show _ ≤ 1200144 by omega), (show _ ≤ 5497210 by omega)⟩ (fun i_70 w H locs hH h => ?_)
          refine lv_iload hx hb dL_law_652 (lv_at hl 1 rfl) ?_
          refine lv_icmp_eq hx hb dL_law_654 (tgt := 659) (by decide) (fun c_71 => ?_) (fun c_71 => ?_)
          · have h := h.1 c_71
            refine lv_iload hx hb dL_law_659 (lv_at hl 1 rfl) ?_
            refine lv_if_ne hx hb dL_law_661 (tgt := 676) (by decide) (fun c_72 => ?_) (fun c_72 => ?_)
            · have h := h.2 c_72
              refine W.widen (k := cl23 + 22) (n := sl23 + 639) (by omega) (by omega) ?_
              exact b676 _ _ _ _ _ h _ _ _ hH (lv_sub hl [2, 3, 4, 5, 6] rfl)
            · have h := h.1 c_72
              refine hx_aload_n C0 dL_law_664 rfl (lv_at hl 5 rfl) ?_
              refine lv_iconst (v := 0) hx hb dL_law_665 (by decide) ?_
              refine hx_aJ C0 hU hH h dL_law_666 (fun l_73 h => ?_)
              refine lv_iload hx hb dL_law_667 (lv_at hl 0 rfl) ?_
              refine lv_i2l hx hb dL_law_669 rfl ?_
              refine W.lcmp hx hb dL_law_670 ?_
              refine lv_if_eq hx hb dL_law_671 (tgt := 676) (by decide) (fun c_74 => ?_) (fun c_74 => ?_)
              · have h := h.1 c_74
                refine W.widen (k := cl23 + 22) (n := sl23 + 639) (by omega) (by omega) ?_
                exact b676 _ _ _ _ _ h _ _ _ hH (lv_sub hl [2, 3, 4, 5, 6] rfl)
              · have h := h.2 c_74
                refine lv_iconst (v := 0) hx hb dL_law_674 (by decide) ?_
                exact h.elim
          · have h := h.2 c_71
            refine lv_iconst (v := 0) hx hb dL_law_657 (by decide) ?_
            exact h.elim
        have h := h.2 c_75
        have nc_75 : ¬ (i_3).toInt = 5 := hx_ni c_75 rfl
        by_cases c_87 : i_3 = 6
        · have h := h.1 c_87
          have zc_87 : (i_3).toInt = 6 := by rw [c_87]; rfl
          refine lv_tableIn hx hb dL_law_39 (by rw [zc_87]; decide) (by rw [zc_87]; decide) (by rw [zc_87]; rfl) (tgt := 679) (by decide) ?_
          refine hx_aload_n C0 dL_law_679 rfl (lv_at hl 1 rfl) ?_
          refine hx_aload_n C0 dL_law_680 rfl (lv_at hl 0 rfl) ?_
          refine lv_iload hx hb dL_law_681 (lv_at hl 4 rfl) ?_
          refine lv_iconst (v := 1) hx hb dL_law_683 (by decide) ?_
          refine lv_iadd hx hb dL_law_684 ?_
          obtain ⟨hg, h⟩ := h
          refine va_sld hx hb hX hbl hbA hH.2 hg dL_law_685 ?_
          refine lv_topi (fun i_76 ei_76 => ?_)
          have h := h i_76 ei_76
          refine hx_aload_n C0 dL_law_686 rfl (lv_at hl 0 rfl) ?_
          refine lv_iload hx hb dL_law_687 (lv_at hl 4 rfl) ?_
          refine lv_iconst (v := 2) hx hb dL_law_689 (by decide) ?_
          refine lv_iadd hx hb dL_law_690 ?_
          obtain ⟨hg, h⟩ := h
          refine va_sld hx hb hX hbl hbA hH.2 hg dL_law_691 ?_
          refine lv_topi (fun i_77 ei_77 => ?_)
          have h := h i_77 ei_77
          refine hx_aload_n C0 dL_law_692 rfl (lv_at hl 3 rfl) ?_
          refine hx_SWi C0 hU hH (As := [va_rf (some a1), .int i_76, .int i_77, va_rf (some a3)]) (wk_X0_keep l hst h) (vx_cwSW 4 hts (lw_SW q746 q747 q59 q748) rfl rfl rfl (by decide +kernel) ⟨Nat.le_of_ble_eq_true rfl, Nat.le_of_ble_eq_true rfl⟩) rfl hl.1 rfl (Nat.le_of_ble_eq_true rfl) dL_law_693 ⟨(show _ ≤ 1200144 by omega), (show _ ≤ 5497210 by omega)⟩ (fun i_78 w H locs hH h => ?_)
          refine lv_istore hx hb dL_law_696 hl (by decide) (lv' := [(5, .int i_78), (0, va_rf (some b)), (1, va_rf (some a1)), (2, va_rf (some a2)), (3, va_rf (some a3)), (4, .int x4)]) rfl (fun ls hl => ?_)
          refine hx_aload_n C0 dL_law_698 rfl (lv_at hl 3 rfl) ?_
          refine hx_aload_n C0 dL_law_699 rfl (lv_at hl 1 rfl) ?_
          refine lv_iload hx hb dL_law_700 (lv_at hl 5 rfl) ?_
          refine lv_iconst (v := 1) hx hb dL_law_702 (by decide) ?_
          refine lv_iadd hx hb dL_law_703 ?_
          obtain ⟨hg, h⟩ := h
          refine va_sld hx hb hX hbl hbA hH.2 hg dL_law_704 ?_
          refine lv_topi (fun i_79 ei_79 => ?_)
          have h := h i_79 ei_79
          refine hx_aload_n C0 dL_law_705 rfl (lv_at hl 1 rfl) ?_
          refine lv_iload hx hb dL_law_706 (lv_at hl 5 rfl) ?_
          refine lv_iconst (v := 2) hx hb dL_law_708 (by decide) ?_
          refine lv_iadd hx hb dL_law_709 ?_
          obtain ⟨hg, h⟩ := h
          refine va_sld hx hb hX hbl hbA hH.2 hg dL_law_710 ?_
          refine lv_topi (fun i_80 ei_80 => ?_)
          have h := h i_80 ei_80
          obtain ⟨ho, h⟩ := h
          refine hx_Vi C0 hU hH (As := [.int i_79, .int i_80]) (wk_X4_keep l h) (cwV 2 hts (lw_V q1282 q1283 q1284 q71 q1285) rfl rfl rfl (by decide +kernel) ⟨Nat.le_of_ble_eq_true rfl, Nat.le_of_ble_eq_true rfl⟩) (hx_recv hU hH (ci := 3) rfl ho) rfl hl.1 rfl (Nat.le_of_ble_eq_true rfl) dL_law_711 ⟨(show _ ≤ 1200144 by omega), (show _ ≤ 5497210 by omega)⟩ (fun i_81 w H locs hH h => ?_)
          refine lv_istore hx hb dL_law_714 hl (by decide) (lv' := [(6, .int i_81), (5, .int i_78), (0, va_rf (some b)), (1, va_rf (some a1)), (2, va_rf (some a2)), (3, va_rf (some a3)), (4, .int x4)]) rfl (fun ls hl => ?_)
          refine hx_aload_n C0 dL_law_716 rfl (lv_at hl 4 rfl) ?_
          obtain ⟨ho, h⟩ := h
          refine hx_Vi C0 hU hH (As := []) (wk_X4_thrown l h) (cwV 0 hts (lw_V q1153 q1154 q1155 q71 q1156) rfl rfl rfl (by decide +kernel) ⟨Nat.le_of_ble_eq_true rfl, Nat.le_of_ble_eq_true rfl⟩) (hx_recv hU hH (ci := 3) rfl ho) rfl hl.1 rfl (Nat.le_of_ble_eq_true rfl) dL_law_717 ⟨(show _ ≤ 1200144 by omega), (show _ ≤ 5497210 by omega)⟩ (fun i_82 w H locs hH h => ?_)
          refine lv_iload hx hb dL_law_720 (lv_at hl 1 rfl) ?_
          refine lv_icmp_eq hx hb dL_law_722 (tgt := 727) (by decide) (fun c_83 => ?_) (fun c_83 => ?_)
          · have h := h.1 c_83
            refine lv_iload hx hb dL_law_727 (lv_at hl 1 rfl) ?_
            refine lv_if_ne hx hb dL_law_729 (tgt := 751) (by decide) (fun c_84 => ?_) (fun c_84 => ?_)
            · have h := h.2 c_84
              refine W.widen (k := cl23 + 11) (n := sl23 + 327) (by omega) (by omega) ?_
              exact b751 _ _ _ _ _ h _ _ _ hH (lv_sub hl [2, 3, 4, 5, 6] rfl)
            · have h := h.1 c_84
              refine hx_aload_n C0 dL_law_732 rfl (lv_at hl 5 rfl) ?_
              refine lv_iconst (v := 0) hx hb dL_law_733 (by decide) ?_
              refine hx_aJ C0 hU hH h dL_law_734 (fun l_85 h => ?_)
              refine lv_iload hx hb dL_law_735 (lv_at hl 0 rfl) ?_
              refine lv_if_eq hx hb dL_law_737 (tgt := 744) (by decide) (fun c_86 => ?_) (fun c_86 => ?_)
              · have h := h.1 c_86
                refine lv_lconst (v := 0) hx hb dL_law_744 (by decide) ?_
                refine W.widen (k := cl23 + 11) (n := sl23 + 327) (by omega) (by omega) ?_
                exact b745 _ _ _ _ _ _ _ h _ _ _ hH (lv_sub hl [2, 3, 4, 5, 6] rfl)
              · have h := h.2 c_86
                refine lv_lconst (v := 1) hx hb dL_law_740 (by decide) ?_
                refine lv_goto hx hb dL_law_741 (tgt := 745) (by decide) ?_
                refine W.widen (k := cl23 + 11) (n := sl23 + 327) (by omega) (by omega) ?_
                exact b745 _ _ _ _ _ _ _ h _ _ _ hH (lv_sub hl [2, 3, 4, 5, 6] rfl)
          · have h := h.2 c_83
            refine lv_iconst (v := 0) hx hb dL_law_725 (by decide) ?_
            exact h.elim
        have h := h.2 c_87
        have nc_87 : ¬ (i_3).toInt = 6 := hx_ni c_87 rfl
        by_cases c_99 : i_3 = 7
        · have h := h.1 c_99
          have zc_99 : (i_3).toInt = 7 := by rw [c_99]; rfl
          refine lv_tableIn hx hb dL_law_39 (by rw [zc_99]; decide) (by rw [zc_99]; decide) (by rw [zc_99]; rfl) (tgt := 754) (by decide) ?_
          refine hx_aload_n C0 dL_law_754 rfl (lv_at hl 1 rfl) ?_
          refine hx_aload_n C0 dL_law_755 rfl (lv_at hl 0 rfl) ?_
          refine lv_iload hx hb dL_law_756 (lv_at hl 4 rfl) ?_
          refine lv_iconst (v := 1) hx hb dL_law_758 (by decide) ?_
          refine lv_iadd hx hb dL_law_759 ?_
          obtain ⟨hg, h⟩ := h
          refine va_sld hx hb hX hbl hbA hH.2 hg dL_law_760 ?_
          refine lv_topi (fun i_88 ei_88 => ?_)
          have h := h i_88 ei_88
          refine hx_aload_n C0 dL_law_761 rfl (lv_at hl 0 rfl) ?_
          refine lv_iload hx hb dL_law_762 (lv_at hl 4 rfl) ?_
          refine lv_iconst (v := 2) hx hb dL_law_764 (by decide) ?_
          refine lv_iadd hx hb dL_law_765 ?_
          obtain ⟨hg, h⟩ := h
          refine va_sld hx hb hX hbl hbA hH.2 hg dL_law_766 ?_
          refine lv_topi (fun i_89 ei_89 => ?_)
          have h := h i_89 ei_89
          refine hx_aload_n C0 dL_law_767 rfl (lv_at hl 3 rfl) ?_
          refine hx_SWi C0 hU hH (As := [va_rf (some a1), .int i_88, .int i_89, va_rf (some a3)]) (wk_X0_greet l hst h) (vx_cwSW 4 hts (lw_SW q757 q758 q59 q759) rfl rfl rfl (by decide +kernel) ⟨Nat.le_of_ble_eq_true rfl, Nat.le_of_ble_eq_true rfl⟩) rfl hl.1 rfl (Nat.le_of_ble_eq_true rfl) dL_law_768 ⟨(show _ ≤ 1200144 by omega), (show _ ≤ 5497210 by omega)⟩ (fun i_90 w H locs hH h => ?_)
          refine lv_istore hx hb dL_law_771 hl (by decide) (lv' := [(5, .int i_90), (0, va_rf (some b)), (1, va_rf (some a1)), (2, va_rf (some a2)), (3, va_rf (some a3)), (4, .int x4)]) rfl (fun ls hl => ?_)
          refine hx_aload_n C0 dL_law_773 rfl (lv_at hl 3 rfl) ?_
          refine hx_aload_n C0 dL_law_774 rfl (lv_at hl 1 rfl) ?_
          refine lv_iload hx hb dL_law_775 (lv_at hl 5 rfl) ?_
          refine lv_iconst (v := 1) hx hb dL_law_777 (by decide) ?_
          refine lv_iadd hx hb dL_law_778 ?_
          obtain ⟨hg, h⟩ := h
          refine va_sld hx hb hX hbl hbA hH.2 hg dL_law_779 ?_
          refine lv_topi (fun i_91 ei_91 => ?_)
          have h := h i_91 ei_91
          refine hx_aload_n C0 dL_law_780 rfl (lv_at hl 1 rfl) ?_
          refine lv_iload hx hb dL_law_781 (lv_at hl 5 rfl) ?_
          refine lv_iconst (v := 2) hx hb dL_law_783 (by decide) ?_
          refine lv_iadd hx hb dL_law_784 ?_
          obtain ⟨hg, h⟩ := h
          refine va_sld hx hb hX hbl hbA hH.2 hg dL_law_785 ?_
          refine lv_topi (fun i_92 ei_92 => ?_)
          have h := h i_92 ei_92
          obtain ⟨ho, h⟩ := h
          refine hx_Vi C0 hU hH (As := [.int i_91, .int i_92]) (wk_X4_greet l h) (cwV 2 hts (lw_V q1286 q1287 q1288 q71 q1289) rfl rfl rfl (by decide +kernel) ⟨Nat.le_of_ble_eq_true rfl, Nat.le_of_ble_eq_true rfl⟩) (hx_recv hU hH (ci := 3) rfl ho) rfl hl.1 rfl (Nat.le_of_ble_eq_true rfl) dL_law_786 ⟨(show _ ≤ 1200144 by omega), (show _ ≤ 5497210 by omega)⟩ (fun i_93 w H locs hH h => ?_)
          refine lv_istore hx hb dL_law_789 hl (by decide) (lv' := [(6, .int i_93), (5, .int i_90), (0, va_rf (some b)), (1, va_rf (some a1)), (2, va_rf (some a2)), (3, va_rf (some a3)), (4, .int x4)]) rfl (fun ls hl => ?_)
          refine hx_aload_n C0 dL_law_791 rfl (lv_at hl 4 rfl) ?_
          obtain ⟨ho, h⟩ := h
          refine hx_Vi C0 hU hH (As := []) (wk_X4_thrown l h) (cwV 0 hts (lw_V q1153 q1154 q1155 q71 q1156) rfl rfl rfl (by decide +kernel) ⟨Nat.le_of_ble_eq_true rfl, Nat.le_of_ble_eq_true rfl⟩) (hx_recv hU hH (ci := 3) rfl ho) rfl hl.1 rfl (Nat.le_of_ble_eq_true rfl) dL_law_792 ⟨(show _ ≤ 1200144 by omega), (show _ ≤ 5497210 by omega)⟩ (fun i_94 w H locs hH h => ?_)
          refine lv_iload hx hb dL_law_795 (lv_at hl 1 rfl) ?_
          refine lv_icmp_eq hx hb dL_law_797 (tgt := 802) (by decide) (fun c_95 => ?_) (fun c_95 => ?_)
          · have h := h.1 c_95
            refine lv_iload hx hb dL_law_802 (lv_at hl 1 rfl) ?_
            refine lv_if_ne hx hb dL_law_804 (tgt := 819) (by decide) (fun c_96 => ?_) (fun c_96 => ?_)
            · have h := h.2 c_96
              refine W.widen (k := cl23 + 16) (n := sl23 + 342) (by omega) (by omega) ?_
              exact b819 _ _ _ _ _ h _ _ _ hH (lv_sub hl [2, 3, 4, 5, 6] rfl)
            · have h := h.1 c_96
              refine hx_aload_n C0 dL_law_807 rfl (lv_at hl 5 rfl) ?_
              refine lv_iconst (v := 0) hx hb dL_law_808 (by decide) ?_
              refine hx_aJ C0 hU hH h dL_law_809 (fun l_97 h => ?_)
              refine lv_iload hx hb dL_law_810 (lv_at hl 0 rfl) ?_
              refine lv_i2l hx hb dL_law_812 rfl ?_
              refine W.lcmp hx hb dL_law_813 ?_
              refine lv_if_eq hx hb dL_law_814 (tgt := 819) (by decide) (fun c_98 => ?_) (fun c_98 => ?_)
              · have h := h.1 c_98
                refine W.widen (k := cl23 + 16) (n := sl23 + 342) (by omega) (by omega) ?_
                exact b819 _ _ _ _ _ h _ _ _ hH (lv_sub hl [2, 3, 4, 5, 6] rfl)
              · have h := h.2 c_98
                refine lv_iconst (v := 0) hx hb dL_law_817 (by decide) ?_
                exact h.elim
          · have h := h.2 c_95
            refine lv_iconst (v := 0) hx hb dL_law_800 (by decide) ?_
            exact h.elim
        have h := h.2 c_99
        have nc_99 : ¬ (i_3).toInt = 7 := hx_ni c_99 rfl
        by_cases c_109 : i_3 = 8
        · have h := h.1 c_109
          have zc_109 : (i_3).toInt = 8 := by rw [c_109]; rfl
          refine lv_tableIn hx hb dL_law_39 (by rw [zc_109]; decide) (by rw [zc_109]; decide) (by rw [zc_109]; rfl) (tgt := 822) (by decide) ?_
          refine hx_aload_n C0 dL_law_822 rfl (lv_at hl 1 rfl) ?_
          refine hx_aload_n C0 dL_law_823 rfl (lv_at hl 0 rfl) ?_
          refine lv_iload hx hb dL_law_824 (lv_at hl 4 rfl) ?_
          refine lv_iconst (v := 1) hx hb dL_law_826 (by decide) ?_
          refine lv_iadd hx hb dL_law_827 ?_
          obtain ⟨hg, h⟩ := h
          refine va_sld hx hb hX hbl hbA hH.2 hg dL_law_828 ?_
          refine lv_topi (fun i_100 ei_100 => ?_)
          have h := h i_100 ei_100
          refine hx_aload_n C0 dL_law_829 rfl (lv_at hl 3 rfl) ?_
          refine hx_SWi C0 hU hH (As := [va_rf (some a1), .int i_100, va_rf (some a3)]) (wk_X0_deliver l hst h) (vx_cwSW 3 hts (lw_SW q765 q766 q59 q767) rfl rfl rfl (by decide +kernel) ⟨Nat.le_of_ble_eq_true rfl, Nat.le_of_ble_eq_true rfl⟩) rfl hl.1 rfl (Nat.le_of_ble_eq_true rfl) dL_law_830 ⟨(show _ ≤ 1200144 by omega), (show _ ≤ 5497210 by omega)⟩ (fun i_101 w H locs hH h => ?_)
          refine lv_istore hx hb dL_law_833 hl (by decide) (lv' := [(5, .int i_101), (0, va_rf (some b)), (1, va_rf (some a1)), (2, va_rf (some a2)), (3, va_rf (some a3)), (4, .int x4)]) rfl (fun ls hl => ?_)
          refine hx_aload_n C0 dL_law_835 rfl (lv_at hl 3 rfl) ?_
          refine hx_aload_n C0 dL_law_836 rfl (lv_at hl 1 rfl) ?_
          refine lv_iload hx hb dL_law_837 (lv_at hl 5 rfl) ?_
          refine lv_iconst (v := 1) hx hb dL_law_839 (by decide) ?_
          refine lv_iadd hx hb dL_law_840 ?_
          obtain ⟨hg, h⟩ := h
          refine va_sld hx hb hX hbl hbA hH.2 hg dL_law_841 ?_
          refine lv_topi (fun i_102 ei_102 => ?_)
          have h := h i_102 ei_102
          obtain ⟨ho, h⟩ := h
          refine hx_Vi C0 hU hH (As := [.int i_102]) (wk_X4_deliver l h) (cwV 1 hts (lw_V q1290 q1291 q1292 q71 q1293) rfl rfl rfl (by decide +kernel) ⟨Nat.le_of_ble_eq_true rfl, Nat.le_of_ble_eq_true rfl⟩) (hx_recv hU hH (ci := 3) rfl ho) rfl hl.1 rfl (Nat.le_of_ble_eq_true rfl) dL_law_842 ⟨(show _ ≤ 1200144 by omega), (show _ ≤ 5497210 by omega)⟩ (fun i_103 w H locs hH h => ?_)
          refine lv_istore hx hb dL_law_845 hl (by decide) (lv' := [(6, .int i_103), (5, .int i_101), (0, va_rf (some b)), (1, va_rf (some a1)), (2, va_rf (some a2)), (3, va_rf (some a3)), (4, .int x4)]) rfl (fun ls hl => ?_)
          refine hx_aload_n C0 dL_law_847 rfl (lv_at hl 4 rfl) ?_
          obtain ⟨ho, h⟩ := h
          refine hx_Vi C0 hU hH (As := []) (wk_X4_thrown l h) (cwV 0 hts (lw_V q1153 q1154 q1155 q71 q1156) rfl rfl rfl (by decide +kernel) ⟨Nat.le_of_ble_eq_true rfl, Nat.le_of_ble_eq_true rfl⟩) (hx_recv hU hH (ci := 3) rfl ho) rfl hl.1 rfl (Nat.le_of_ble_eq_true rfl) dL_law_848 ⟨(show _ ≤ 1200144 by omega), (show _ ≤ 5497210 by omega)⟩ (fun i_104 w H locs hH h => ?_)
          refine lv_iload hx hb dL_law_851 (lv_at hl 1 rfl) ?_
          refine lv_icmp_eq hx hb dL_law_853 (tgt := 858) (by decide) (fun c_105 => ?_) (fun c_105 => ?_)
          · have h := h.1 c_105
            refine lv_iload hx hb dL_law_858 (lv_at hl 1 rfl) ?_
            refine lv_if_ne hx hb dL_law_860 (tgt := 875) (by decide) (fun c_106 => ?_) (fun c_106 => ?_)
            · have h := h.2 c_106
              refine W.widen (k := cl23 + 147) (n := sl23 + 6954) (by omega) (by omega) ?_
              exact b875 _ _ _ _ _ h _ _ _ hH (lv_sub hl [2, 3, 4, 5, 6] rfl)
            · have h := h.1 c_106
              refine hx_aload_n C0 dL_law_863 rfl (lv_at hl 5 rfl) ?_
              refine lv_iconst (v := 0) hx hb dL_law_864 (by decide) ?_
              refine hx_aJ C0 hU hH h dL_law_865 (fun l_107 h => ?_)
              refine lv_iload hx hb dL_law_866 (lv_at hl 0 rfl) ?_
              refine lv_i2l hx hb dL_law_868 rfl ?_
              refine W.lcmp hx hb dL_law_869 ?_
              refine lv_if_eq hx hb dL_law_870 (tgt := 875) (by decide) (fun c_108 => ?_) (fun c_108 => ?_)
              · have h := h.1 c_108
                refine W.widen (k := cl23 + 147) (n := sl23 + 6954) (by omega) (by omega) ?_
                exact b875 _ _ _ _ _ h _ _ _ hH (lv_sub hl [2, 3, 4, 5, 6] rfl)
              · have h := h.2 c_108
                refine lv_iconst (v := 0) hx hb dL_law_873 (by decide) ?_
                exact h.elim
          · have h := h.2 c_105
            refine lv_iconst (v := 0) hx hb dL_law_856 (by decide) ?_
            exact h.elim
        have h := h.2 c_109
        have nc_109 : ¬ (i_3).toInt = 8 := hx_ni c_109 rfl
        by_cases c_119 : i_3 = 9
        · have h := h.1 c_119
          have zc_119 : (i_3).toInt = 9 := by rw [c_119]; rfl
          refine lv_tableIn hx hb dL_law_39 (by rw [zc_119]; decide) (by rw [zc_119]; decide) (by rw [zc_119]; rfl) (tgt := 878) (by decide) ?_
          refine hx_aload_n C0 dL_law_878 rfl (lv_at hl 1 rfl) ?_
          refine hx_aload_n C0 dL_law_879 rfl (lv_at hl 0 rfl) ?_
          refine lv_iload hx hb dL_law_880 (lv_at hl 4 rfl) ?_
          refine lv_iconst (v := 1) hx hb dL_law_882 (by decide) ?_
          refine lv_iadd hx hb dL_law_883 ?_
          obtain ⟨hg, h⟩ := h
          refine va_sld hx hb hX hbl hbA hH.2 hg dL_law_884 ?_
          refine lv_topi (fun i_110 ei_110 => ?_)
          have h := h i_110 ei_110
          refine hx_aload_n C0 dL_law_885 rfl (lv_at hl 3 rfl) ?_
          refine hx_SWi C0 hU hH (As := [va_rf (some a1), .int i_110, va_rf (some a3)]) (wk_X0_lose l hst h) (vx_cwSW 3 hts (lw_SW q876 q877 q59 q878) rfl rfl rfl (by decide +kernel) ⟨Nat.le_of_ble_eq_true rfl, Nat.le_of_ble_eq_true rfl⟩) rfl hl.1 rfl (Nat.le_of_ble_eq_true rfl) dL_law_886 ⟨(show _ ≤ 1200144 by omega), (show _ ≤ 5497210 by omega)⟩ (fun i_111 w H locs hH h => ?_)
          refine lv_istore hx hb dL_law_889 hl (by decide) (lv' := [(5, .int i_111), (0, va_rf (some b)), (1, va_rf (some a1)), (2, va_rf (some a2)), (3, va_rf (some a3)), (4, .int x4)]) rfl (fun ls hl => ?_)
          refine hx_aload_n C0 dL_law_891 rfl (lv_at hl 3 rfl) ?_
          refine hx_aload_n C0 dL_law_892 rfl (lv_at hl 1 rfl) ?_
          refine lv_iload hx hb dL_law_893 (lv_at hl 5 rfl) ?_
          refine lv_iconst (v := 1) hx hb dL_law_895 (by decide) ?_
          refine lv_iadd hx hb dL_law_896 ?_
          obtain ⟨hg, h⟩ := h
          refine va_sld hx hb hX hbl hbA hH.2 hg dL_law_897 ?_
          refine lv_topi (fun i_112 ei_112 => ?_)
          have h := h i_112 ei_112
          obtain ⟨ho, h⟩ := h
          refine hx_Vi C0 hU hH (As := [.int i_112]) (wk_X4_lose l h) (cwV 1 hts (lw_V q1340 q1341 q1342 q71 q1343) rfl rfl rfl (by decide +kernel) ⟨Nat.le_of_ble_eq_true rfl, Nat.le_of_ble_eq_true rfl⟩) (hx_recv hU hH (ci := 3) rfl ho) rfl hl.1 rfl (Nat.le_of_ble_eq_true rfl) dL_law_898 ⟨(show _ ≤ 1200144 by omega), (show _ ≤ 5497210 by omega)⟩ (fun i_113 w H locs hH h => ?_)
          refine lv_istore hx hb dL_law_901 hl (by decide) (lv' := [(6, .int i_113), (5, .int i_111), (0, va_rf (some b)), (1, va_rf (some a1)), (2, va_rf (some a2)), (3, va_rf (some a3)), (4, .int x4)]) rfl (fun ls hl => ?_)
          refine hx_aload_n C0 dL_law_903 rfl (lv_at hl 4 rfl) ?_
          obtain ⟨ho, h⟩ := h
          refine hx_Vi C0 hU hH (As := []) (wk_X4_thrown l h) (cwV 0 hts (lw_V q1153 q1154 q1155 q71 q1156) rfl rfl rfl (by decide +kernel) ⟨Nat.le_of_ble_eq_true rfl, Nat.le_of_ble_eq_true rfl⟩) (hx_recv hU hH (ci := 3) rfl ho) rfl hl.1 rfl (Nat.le_of_ble_eq_true rfl) dL_law_904 ⟨(show _ ≤ 1200144 by omega), (show _ ≤ 5497210 by omega)⟩ (fun i_114 w H locs hH h => ?_)
          refine lv_iload hx hb dL_law_907 (lv_at hl 1 rfl) ?_
          refine lv_icmp_eq hx hb dL_law_909 (tgt := 914) (by decide) (fun c_115 => ?_) (fun c_115 => ?_)
          · have h := h.1 c_115
            refine lv_iload hx hb dL_law_914 (lv_at hl 1 rfl) ?_
            refine lv_if_ne hx hb dL_law_916 (tgt := 931) (by decide) (fun c_116 => ?_) (fun c_116 => ?_)
            · have h := h.2 c_116
              refine W.widen (k := cl23 + 1) (n := sl23 + 6) (by omega) (by omega) ?_
              exact b931 _ _ _ _ _ h _ _ _ hH (lv_sub hl [2, 3, 4, 5, 6] rfl)
            · have h := h.1 c_116
              refine hx_aload_n C0 dL_law_919 rfl (lv_at hl 5 rfl) ?_
              refine lv_iconst (v := 0) hx hb dL_law_920 (by decide) ?_
              refine hx_aJ C0 hU hH h dL_law_921 (fun l_117 h => ?_)
              refine lv_iload hx hb dL_law_922 (lv_at hl 0 rfl) ?_
              refine lv_i2l hx hb dL_law_924 rfl ?_
              refine W.lcmp hx hb dL_law_925 ?_
              refine lv_if_eq hx hb dL_law_926 (tgt := 931) (by decide) (fun c_118 => ?_) (fun c_118 => ?_)
              · have h := h.1 c_118
                refine W.widen (k := cl23 + 1) (n := sl23 + 6) (by omega) (by omega) ?_
                exact b931 _ _ _ _ _ h _ _ _ hH (lv_sub hl [2, 3, 4, 5, 6] rfl)
              · have h := h.2 c_118
                refine lv_iconst (v := 0) hx hb dL_law_929 (by decide) ?_
                exact h.elim
          · have h := h.2 c_115
            refine lv_iconst (v := 0) hx hb dL_law_912 (by decide) ?_
            exact h.elim
        have h := h.2 c_119
        have nc_119 : ¬ (i_3).toInt = 9 := hx_ni c_119 rfl
        by_cases c_129 : i_3 = 10
        · have h := h.1 c_129
          have zc_129 : (i_3).toInt = 10 := by rw [c_129]; rfl
          refine lv_tableIn hx hb dL_law_39 (by rw [zc_129]; decide) (by rw [zc_129]; decide) (by rw [zc_129]; rfl) (tgt := 934) (by decide) ?_
          refine hx_aload_n C0 dL_law_934 rfl (lv_at hl 1 rfl) ?_
          refine hx_aload_n C0 dL_law_935 rfl (lv_at hl 0 rfl) ?_
          refine lv_iload hx hb dL_law_936 (lv_at hl 4 rfl) ?_
          refine lv_iconst (v := 1) hx hb dL_law_938 (by decide) ?_
          refine lv_iadd hx hb dL_law_939 ?_
          obtain ⟨hg, h⟩ := h
          refine va_sld hx hb hX hbl hbA hH.2 hg dL_law_940 ?_
          refine lv_topi (fun i_120 ei_120 => ?_)
          have h := h i_120 ei_120
          refine hx_aload_n C0 dL_law_941 rfl (lv_at hl 3 rfl) ?_
          refine hx_SWi C0 hU hH (As := [va_rf (some a1), .int i_120, va_rf (some a3)]) (wk_X0_twice l hst h) (vx_cwSW 3 hts (lw_SW q883 q884 q59 q885) rfl rfl rfl (by decide +kernel) ⟨Nat.le_of_ble_eq_true rfl, Nat.le_of_ble_eq_true rfl⟩) rfl hl.1 rfl (Nat.le_of_ble_eq_true rfl) dL_law_942 ⟨(show _ ≤ 1200144 by omega), (show _ ≤ 5497210 by omega)⟩ (fun i_121 w H locs hH h => ?_)
          refine lv_istore hx hb dL_law_945 hl (by decide) (lv' := [(5, .int i_121), (0, va_rf (some b)), (1, va_rf (some a1)), (2, va_rf (some a2)), (3, va_rf (some a3)), (4, .int x4)]) rfl (fun ls hl => ?_)
          refine hx_aload_n C0 dL_law_947 rfl (lv_at hl 3 rfl) ?_
          refine hx_aload_n C0 dL_law_948 rfl (lv_at hl 1 rfl) ?_
          refine lv_iload hx hb dL_law_949 (lv_at hl 5 rfl) ?_
          refine lv_iconst (v := 1) hx hb dL_law_951 (by decide) ?_
          refine lv_iadd hx hb dL_law_952 ?_
          obtain ⟨hg, h⟩ := h
          refine va_sld hx hb hX hbl hbA hH.2 hg dL_law_953 ?_
          refine lv_topi (fun i_122 ei_122 => ?_)
          have h := h i_122 ei_122
          obtain ⟨ho, h⟩ := h
          refine hx_Vi C0 hU hH (As := [.int i_122]) (wk_X4_twice l h) (cwV 1 hts (lw_V q1344 q1345 q1346 q71 q1347) rfl rfl rfl (by decide +kernel) ⟨Nat.le_of_ble_eq_true rfl, Nat.le_of_ble_eq_true rfl⟩) (hx_recv hU hH (ci := 3) rfl ho) rfl hl.1 rfl (Nat.le_of_ble_eq_true rfl) dL_law_954 ⟨(show _ ≤ 1200144 by omega), (show _ ≤ 5497210 by omega)⟩ (fun i_123 w H locs hH h => ?_)
          refine lv_istore hx hb dL_law_957 hl (by decide) (lv' := [(6, .int i_123), (5, .int i_121), (0, va_rf (some b)), (1, va_rf (some a1)), (2, va_rf (some a2)), (3, va_rf (some a3)), (4, .int x4)]) rfl (fun ls hl => ?_)
          refine hx_aload_n C0 dL_law_959 rfl (lv_at hl 4 rfl) ?_
          obtain ⟨ho, h⟩ := h
          refine hx_Vi C0 hU hH (As := []) (wk_X4_thrown l h) (cwV 0 hts (lw_V q1153 q1154 q1155 q71 q1156) rfl rfl rfl (by decide +kernel) ⟨Nat.le_of_ble_eq_true rfl, Nat.le_of_ble_eq_true rfl⟩) (hx_recv hU hH (ci := 3) rfl ho) rfl hl.1 rfl (Nat.le_of_ble_eq_true rfl) dL_law_960 ⟨(show _ ≤ 1200144 by omega), (show _ ≤ 5497210 by omega)⟩ (fun i_124 w H locs hH h => ?_)
          refine lv_iload hx hb dL_law_963 (lv_at hl 1 rfl) ?_
          refine lv_icmp_eq hx hb dL_law_965 (tgt := 970) (by decide) (fun c_125 => ?_) (fun c_125 => ?_)
          · have h := h.1 c_125
            refine lv_iload hx hb dL_law_970 (lv_at hl 1 rfl) ?_
            refine lv_if_ne hx hb dL_law_972 (tgt := 987) (by decide) (fun c_126 => ?_) (fun c_126 => ?_)
            · have h := h.2 c_126
              refine W.widen (k := cl23 + 5) (n := sl23 + 291) (by omega) (by omega) ?_
              exact b987 _ _ _ _ _ h _ _ _ hH (lv_sub hl [2, 3, 4, 5, 6] rfl)
            · have h := h.1 c_126
              refine hx_aload_n C0 dL_law_975 rfl (lv_at hl 5 rfl) ?_
              refine lv_iconst (v := 0) hx hb dL_law_976 (by decide) ?_
              refine hx_aJ C0 hU hH h dL_law_977 (fun l_127 h => ?_)
              refine lv_iload hx hb dL_law_978 (lv_at hl 0 rfl) ?_
              refine lv_i2l hx hb dL_law_980 rfl ?_
              refine W.lcmp hx hb dL_law_981 ?_
              refine lv_if_eq hx hb dL_law_982 (tgt := 987) (by decide) (fun c_128 => ?_) (fun c_128 => ?_)
              · have h := h.1 c_128
                refine W.widen (k := cl23 + 5) (n := sl23 + 291) (by omega) (by omega) ?_
                exact b987 _ _ _ _ _ h _ _ _ hH (lv_sub hl [2, 3, 4, 5, 6] rfl)
              · have h := h.2 c_128
                refine lv_iconst (v := 0) hx hb dL_law_985 (by decide) ?_
                exact h.elim
          · have h := h.2 c_125
            refine lv_iconst (v := 0) hx hb dL_law_968 (by decide) ?_
            exact h.elim
        have h := h.2 c_129
        have nc_129 : ¬ (i_3).toInt = 10 := hx_ni c_129 rfl
        by_cases c_143 : i_3 = 11
        · have h := h.1 c_143
          have zc_143 : (i_3).toInt = 11 := by rw [c_143]; rfl
          refine lv_tableIn hx hb dL_law_39 (by rw [zc_143]; decide) (by rw [zc_143]; decide) (by rw [zc_143]; rfl) (tgt := 990) (by decide) ?_
          refine hx_aload_n C0 dL_law_990 rfl (lv_at hl 1 rfl) ?_
          refine hx_aload_n C0 dL_law_991 rfl (lv_at hl 0 rfl) ?_
          refine lv_iload hx hb dL_law_992 (lv_at hl 4 rfl) ?_
          refine lv_iconst (v := 1) hx hb dL_law_994 (by decide) ?_
          refine lv_iadd hx hb dL_law_995 ?_
          obtain ⟨hg, h⟩ := h
          refine va_sld hx hb hX hbl hbA hH.2 hg dL_law_996 ?_
          refine lv_topi (fun i_130 ei_130 => ?_)
          have h := h i_130 ei_130
          refine hx_aload_n C0 dL_law_997 rfl (lv_at hl 0 rfl) ?_
          refine lv_iload hx hb dL_law_998 (lv_at hl 4 rfl) ?_
          refine lv_iconst (v := 2) hx hb dL_law_1000 (by decide) ?_
          refine lv_iadd hx hb dL_law_1001 ?_
          obtain ⟨hg, h⟩ := h
          refine va_sld hx hb hX hbl hbA hH.2 hg dL_law_1002 ?_
          refine lv_topi (fun i_131 ei_131 => ?_)
          have h := h i_131 ei_131
          refine hx_aload_n C0 dL_law_1003 rfl (lv_at hl 0 rfl) ?_
          refine lv_iload hx hb dL_law_1004 (lv_at hl 4 rfl) ?_
          refine lv_iconst (v := 3) hx hb dL_law_1006 (by decide) ?_
          refine lv_iadd hx hb dL_law_1007 ?_
          obtain ⟨hg, h⟩ := h
          refine va_sld hx hb hX hbl hbA hH.2 hg dL_law_1008 ?_
          refine lv_topi (fun i_132 ei_132 => ?_)
          have h := h i_132 ei_132
          refine hx_aload_n C0 dL_law_1009 rfl (lv_at hl 3 rfl) ?_
          refine hx_SWi C0 hU hH (As := [va_rf (some a1), .int i_130, .int i_131, .int i_132, va_rf (some a3)]) (wk_X0_turn l hst h) (vx_cwSW 5 hts (lw_SW q894 q895 q59 q896) rfl rfl rfl (by decide +kernel) ⟨Nat.le_of_ble_eq_true rfl, Nat.le_of_ble_eq_true rfl⟩) rfl hl.1 rfl (Nat.le_of_ble_eq_true rfl) dL_law_1010 ⟨(show _ ≤ 1200144 by omega), (show _ ≤ 5497210 by omega)⟩ (fun i_133 w H locs hH h => ?_)
          refine lv_istore hx hb dL_law_1013 hl (by decide) (lv' := [(5, .int i_133), (0, va_rf (some b)), (1, va_rf (some a1)), (2, va_rf (some a2)), (3, va_rf (some a3)), (4, .int x4)]) rfl (fun ls hl => ?_)
          refine hx_aload_n C0 dL_law_1015 rfl (lv_at hl 3 rfl) ?_
          refine hx_aload_n C0 dL_law_1016 rfl (lv_at hl 1 rfl) ?_
          refine lv_iload hx hb dL_law_1017 (lv_at hl 5 rfl) ?_
          refine lv_iconst (v := 1) hx hb dL_law_1019 (by decide) ?_
          refine lv_iadd hx hb dL_law_1020 ?_
          obtain ⟨hg, h⟩ := h
          refine va_sld hx hb hX hbl hbA hH.2 hg dL_law_1021 ?_
          refine lv_topi (fun i_134 ei_134 => ?_)
          have h := h i_134 ei_134
          refine hx_aload_n C0 dL_law_1022 rfl (lv_at hl 1 rfl) ?_
          refine lv_iload hx hb dL_law_1023 (lv_at hl 5 rfl) ?_
          refine lv_iconst (v := 2) hx hb dL_law_1025 (by decide) ?_
          refine lv_iadd hx hb dL_law_1026 ?_
          obtain ⟨hg, h⟩ := h
          refine va_sld hx hb hX hbl hbA hH.2 hg dL_law_1027 ?_
          refine lv_topi (fun i_135 ei_135 => ?_)
          have h := h i_135 ei_135
          refine hx_aload_n C0 dL_law_1028 rfl (lv_at hl 1 rfl) ?_
          refine lv_iload hx hb dL_law_1029 (lv_at hl 5 rfl) ?_
          refine lv_iconst (v := 3) hx hb dL_law_1031 (by decide) ?_
          refine lv_iadd hx hb dL_law_1032 ?_
          obtain ⟨hg, h⟩ := h
          refine va_sld hx hb hX hbl hbA hH.2 hg dL_law_1033 ?_
          refine lv_topi (fun i_136 ei_136 => ?_)
          have h := h i_136 ei_136
          obtain ⟨ho, h⟩ := h
          refine hx_Vi C0 hU hH (As := [.int i_134, .int i_135, .int i_136]) (wk_X4_turn l h) (cwV 3 hts (lw_V q1354 q1355 q1356 q71 q1357) rfl rfl rfl (by decide +kernel) ⟨Nat.le_of_ble_eq_true rfl, Nat.le_of_ble_eq_true rfl⟩) (hx_recv hU hH (ci := 3) rfl ho) rfl hl.1 rfl (Nat.le_of_ble_eq_true rfl) dL_law_1034 ⟨(show _ ≤ 1200144 by omega), (show _ ≤ 5497210 by omega)⟩ (fun i_137 w H locs hH h => ?_)
          refine lv_istore hx hb dL_law_1037 hl (by decide) (lv' := [(6, .int i_137), (5, .int i_133), (0, va_rf (some b)), (1, va_rf (some a1)), (2, va_rf (some a2)), (3, va_rf (some a3)), (4, .int x4)]) rfl (fun ls hl => ?_)
          refine hx_aload_n C0 dL_law_1039 rfl (lv_at hl 4 rfl) ?_
          obtain ⟨ho, h⟩ := h
          refine hx_Vi C0 hU hH (As := []) (wk_X4_thrown l h) (cwV 0 hts (lw_V q1153 q1154 q1155 q71 q1156) rfl rfl rfl (by decide +kernel) ⟨Nat.le_of_ble_eq_true rfl, Nat.le_of_ble_eq_true rfl⟩) (hx_recv hU hH (ci := 3) rfl ho) rfl hl.1 rfl (Nat.le_of_ble_eq_true rfl) dL_law_1040 ⟨(show _ ≤ 1200144 by omega), (show _ ≤ 5497210 by omega)⟩ (fun i_138 w H locs hH h => ?_)
          refine lv_iload hx hb dL_law_1043 (lv_at hl 1 rfl) ?_
          refine lv_icmp_eq hx hb dL_law_1045 (tgt := 1050) (by decide) (fun c_139 => ?_) (fun c_139 => ?_)
          · have h := h.1 c_139
            refine lv_iload hx hb dL_law_1050 (lv_at hl 1 rfl) ?_
            refine lv_if_ne hx hb dL_law_1052 (tgt := 1067) (by decide) (fun c_140 => ?_) (fun c_140 => ?_)
            · have h := h.2 c_140
              refine W.widen (k := cl23 + 2) (n := sl23 + 12) (by omega) (by omega) ?_
              exact b1067 _ _ _ _ _ h _ _ _ hH (lv_sub hl [2, 3, 4, 5, 6] rfl)
            · have h := h.1 c_140
              refine hx_aload_n C0 dL_law_1055 rfl (lv_at hl 5 rfl) ?_
              refine lv_iconst (v := 0) hx hb dL_law_1056 (by decide) ?_
              refine hx_aJ C0 hU hH h dL_law_1057 (fun l_141 h => ?_)
              refine lv_iload hx hb dL_law_1058 (lv_at hl 0 rfl) ?_
              refine lv_i2l hx hb dL_law_1060 rfl ?_
              refine W.lcmp hx hb dL_law_1061 ?_
              refine lv_if_eq hx hb dL_law_1062 (tgt := 1067) (by decide) (fun c_142 => ?_) (fun c_142 => ?_)
              · have h := h.1 c_142
                refine W.widen (k := cl23 + 2) (n := sl23 + 12) (by omega) (by omega) ?_
                exact b1067 _ _ _ _ _ h _ _ _ hH (lv_sub hl [2, 3, 4, 5, 6] rfl)
              · have h := h.2 c_142
                refine lv_iconst (v := 0) hx hb dL_law_1065 (by decide) ?_
                exact h.elim
          · have h := h.2 c_139
            refine lv_iconst (v := 0) hx hb dL_law_1048 (by decide) ?_
            exact h.elim
        have h := h.2 c_143
        have nc_143 : ¬ (i_3).toInt = 11 := hx_ni c_143 rfl
        by_cases c_155 : i_3 = 12
        · have h := h.1 c_155
          have zc_155 : (i_3).toInt = 12 := by rw [c_155]; rfl
          refine lv_tableIn hx hb dL_law_39 (by rw [zc_155]; decide) (by rw [zc_155]; decide) (by rw [zc_155]; rfl) (tgt := 1070) (by decide) ?_
          refine hx_aload_n C0 dL_law_1070 rfl (lv_at hl 1 rfl) ?_
          refine hx_aload_n C0 dL_law_1071 rfl (lv_at hl 0 rfl) ?_
          refine lv_iload hx hb dL_law_1072 (lv_at hl 4 rfl) ?_
          refine lv_iconst (v := 1) hx hb dL_law_1074 (by decide) ?_
          refine lv_iadd hx hb dL_law_1075 ?_
          obtain ⟨hg, h⟩ := h
          refine va_sld hx hb hX hbl hbA hH.2 hg dL_law_1076 ?_
          refine lv_topi (fun i_144 ei_144 => ?_)
          have h := h i_144 ei_144
          refine hx_aload_n C0 dL_law_1077 rfl (lv_at hl 0 rfl) ?_
          refine lv_iload hx hb dL_law_1078 (lv_at hl 4 rfl) ?_
          refine lv_iconst (v := 2) hx hb dL_law_1080 (by decide) ?_
          refine lv_iadd hx hb dL_law_1081 ?_
          obtain ⟨hg, h⟩ := h
          refine va_sld hx hb hX hbl hbA hH.2 hg dL_law_1082 ?_
          refine lv_topi (fun i_145 ei_145 => ?_)
          have h := h i_145 ei_145
          refine hx_aload_n C0 dL_law_1083 rfl (lv_at hl 3 rfl) ?_
          refine hx_SWi C0 hU hH (As := [va_rf (some a1), .int i_144, .int i_145, va_rf (some a3)]) (wk_X0_reroute l hst h) (vx_cwSW 4 hts (lw_SW q910 q911 q59 q912) rfl rfl rfl (by decide +kernel) ⟨Nat.le_of_ble_eq_true rfl, Nat.le_of_ble_eq_true rfl⟩) rfl hl.1 rfl (Nat.le_of_ble_eq_true rfl) dL_law_1084 ⟨(show _ ≤ 1200144 by omega), (show _ ≤ 5497210 by omega)⟩ (fun i_146 w H locs hH h => ?_)
          refine lv_istore hx hb dL_law_1087 hl (by decide) (lv' := [(5, .int i_146), (0, va_rf (some b)), (1, va_rf (some a1)), (2, va_rf (some a2)), (3, va_rf (some a3)), (4, .int x4)]) rfl (fun ls hl => ?_)
          refine hx_aload_n C0 dL_law_1089 rfl (lv_at hl 3 rfl) ?_
          refine hx_aload_n C0 dL_law_1090 rfl (lv_at hl 1 rfl) ?_
          refine lv_iload hx hb dL_law_1091 (lv_at hl 5 rfl) ?_
          refine lv_iconst (v := 1) hx hb dL_law_1093 (by decide) ?_
          refine lv_iadd hx hb dL_law_1094 ?_
          obtain ⟨hg, h⟩ := h
          refine va_sld hx hb hX hbl hbA hH.2 hg dL_law_1095 ?_
          refine lv_topi (fun i_147 ei_147 => ?_)
          have h := h i_147 ei_147
          refine hx_aload_n C0 dL_law_1096 rfl (lv_at hl 1 rfl) ?_
          refine lv_iload hx hb dL_law_1097 (lv_at hl 5 rfl) ?_
          refine lv_iconst (v := 2) hx hb dL_law_1099 (by decide) ?_
          refine lv_iadd hx hb dL_law_1100 ?_
          obtain ⟨hg, h⟩ := h
          refine va_sld hx hb hX hbl hbA hH.2 hg dL_law_1101 ?_
          refine lv_topi (fun i_148 ei_148 => ?_)
          have h := h i_148 ei_148
          obtain ⟨ho, h⟩ := h
          refine hx_Vi C0 hU hH (As := [.int i_147, .int i_148]) (wk_X4_reroute l h) (cwV 2 hts (lw_V q1366 q1367 q1368 q71 q1369) rfl rfl rfl (by decide +kernel) ⟨Nat.le_of_ble_eq_true rfl, Nat.le_of_ble_eq_true rfl⟩) (hx_recv hU hH (ci := 3) rfl ho) rfl hl.1 rfl (Nat.le_of_ble_eq_true rfl) dL_law_1102 ⟨(show _ ≤ 1200144 by omega), (show _ ≤ 5497210 by omega)⟩ (fun i_149 w H locs hH h => ?_)
          refine lv_istore hx hb dL_law_1105 hl (by decide) (lv' := [(6, .int i_149), (5, .int i_146), (0, va_rf (some b)), (1, va_rf (some a1)), (2, va_rf (some a2)), (3, va_rf (some a3)), (4, .int x4)]) rfl (fun ls hl => ?_)
          refine hx_aload_n C0 dL_law_1107 rfl (lv_at hl 4 rfl) ?_
          obtain ⟨ho, h⟩ := h
          refine hx_Vi C0 hU hH (As := []) (wk_X4_thrown l h) (cwV 0 hts (lw_V q1153 q1154 q1155 q71 q1156) rfl rfl rfl (by decide +kernel) ⟨Nat.le_of_ble_eq_true rfl, Nat.le_of_ble_eq_true rfl⟩) (hx_recv hU hH (ci := 3) rfl ho) rfl hl.1 rfl (Nat.le_of_ble_eq_true rfl) dL_law_1108 ⟨(show _ ≤ 1200144 by omega), (show _ ≤ 5497210 by omega)⟩ (fun i_150 w H locs hH h => ?_)
          refine lv_iload hx hb dL_law_1111 (lv_at hl 1 rfl) ?_
          refine lv_icmp_eq hx hb dL_law_1113 (tgt := 1118) (by decide) (fun c_151 => ?_) (fun c_151 => ?_)
          · have h := h.1 c_151
            refine lv_iload hx hb dL_law_1118 (lv_at hl 1 rfl) ?_
            refine lv_if_ne hx hb dL_law_1120 (tgt := 1135) (by decide) (fun c_152 => ?_) (fun c_152 => ?_)
            · have h := h.2 c_152
              refine W.widen (k := cl23 + 2) (n := sl23 + 12) (by omega) (by omega) ?_
              exact b1135 _ _ _ _ _ h _ _ _ hH (lv_sub hl [2, 3, 4, 5, 6] rfl)
            · have h := h.1 c_152
              refine hx_aload_n C0 dL_law_1123 rfl (lv_at hl 5 rfl) ?_
              refine lv_iconst (v := 0) hx hb dL_law_1124 (by decide) ?_
              refine hx_aJ C0 hU hH h dL_law_1125 (fun l_153 h => ?_)
              refine lv_iload hx hb dL_law_1126 (lv_at hl 0 rfl) ?_
              refine lv_i2l hx hb dL_law_1128 rfl ?_
              refine W.lcmp hx hb dL_law_1129 ?_
              refine lv_if_eq hx hb dL_law_1130 (tgt := 1135) (by decide) (fun c_154 => ?_) (fun c_154 => ?_)
              · have h := h.1 c_154
                refine W.widen (k := cl23 + 2) (n := sl23 + 12) (by omega) (by omega) ?_
                exact b1135 _ _ _ _ _ h _ _ _ hH (lv_sub hl [2, 3, 4, 5, 6] rfl)
              · have h := h.2 c_154
                refine lv_iconst (v := 0) hx hb dL_law_1133 (by decide) ?_
                exact h.elim
          · have h := h.2 c_151
            refine lv_iconst (v := 0) hx hb dL_law_1116 (by decide) ?_
            exact h.elim
        have h := h.2 c_155
        have nc_155 : ¬ (i_3).toInt = 12 := hx_ni c_155 rfl
        by_cases c_165 : i_3 = 13
        · have h := h.1 c_165
          have zc_165 : (i_3).toInt = 13 := by rw [c_165]; rfl
          refine lv_tableIn hx hb dL_law_39 (by rw [zc_165]; decide) (by rw [zc_165]; decide) (by rw [zc_165]; rfl) (tgt := 1138) (by decide) ?_
          refine hx_aload_n C0 dL_law_1138 rfl (lv_at hl 1 rfl) ?_
          refine hx_aload_n C0 dL_law_1139 rfl (lv_at hl 0 rfl) ?_
          refine lv_iload hx hb dL_law_1140 (lv_at hl 4 rfl) ?_
          refine lv_iconst (v := 1) hx hb dL_law_1142 (by decide) ?_
          refine lv_iadd hx hb dL_law_1143 ?_
          obtain ⟨hg, h⟩ := h
          refine va_sld hx hb hX hbl hbA hH.2 hg dL_law_1144 ?_
          refine lv_topi (fun i_156 ei_156 => ?_)
          have h := h i_156 ei_156
          refine hx_aload_n C0 dL_law_1145 rfl (lv_at hl 3 rfl) ?_
          refine hx_SWi C0 hU hH (As := [va_rf (some a1), .int i_156, va_rf (some a3)]) (wk_X0_later l hst h) (vx_cwSW 3 hts (lw_SW q917 q918 q59 q919) rfl rfl rfl (by decide +kernel) ⟨Nat.le_of_ble_eq_true rfl, Nat.le_of_ble_eq_true rfl⟩) rfl hl.1 rfl (Nat.le_of_ble_eq_true rfl) dL_law_1146 ⟨(show _ ≤ 1200144 by omega), (show _ ≤ 5497210 by omega)⟩ (fun i_157 w H locs hH h => ?_)
          refine lv_istore hx hb dL_law_1149 hl (by decide) (lv' := [(5, .int i_157), (0, va_rf (some b)), (1, va_rf (some a1)), (2, va_rf (some a2)), (3, va_rf (some a3)), (4, .int x4)]) rfl (fun ls hl => ?_)
          refine hx_aload_n C0 dL_law_1151 rfl (lv_at hl 3 rfl) ?_
          refine hx_aload_n C0 dL_law_1152 rfl (lv_at hl 1 rfl) ?_
          refine lv_iload hx hb dL_law_1153 (lv_at hl 5 rfl) ?_
          refine lv_iconst (v := 1) hx hb dL_law_1155 (by decide) ?_
          refine lv_iadd hx hb dL_law_1156 ?_
          obtain ⟨hg, h⟩ := h
          refine va_sld hx hb hX hbl hbA hH.2 hg dL_law_1157 ?_
          refine lv_topi (fun i_158 ei_158 => ?_)
          have h := h i_158 ei_158
          obtain ⟨ho, h⟩ := h
          refine hx_Vi C0 hU hH (As := [.int i_158]) (wk_X4_later l h) (cwV 1 hts (lw_V q1370 q1371 q1372 q71 q1373) rfl rfl rfl (by decide +kernel) ⟨Nat.le_of_ble_eq_true rfl, Nat.le_of_ble_eq_true rfl⟩) (hx_recv hU hH (ci := 3) rfl ho) rfl hl.1 rfl (Nat.le_of_ble_eq_true rfl) dL_law_1158 ⟨(show _ ≤ 1200144 by omega), (show _ ≤ 5497210 by omega)⟩ (fun i_159 w H locs hH h => ?_)
          refine lv_istore hx hb dL_law_1161 hl (by decide) (lv' := [(6, .int i_159), (5, .int i_157), (0, va_rf (some b)), (1, va_rf (some a1)), (2, va_rf (some a2)), (3, va_rf (some a3)), (4, .int x4)]) rfl (fun ls hl => ?_)
          refine hx_aload_n C0 dL_law_1163 rfl (lv_at hl 4 rfl) ?_
          obtain ⟨ho, h⟩ := h
          refine hx_Vi C0 hU hH (As := []) (wk_X4_thrown l h) (cwV 0 hts (lw_V q1153 q1154 q1155 q71 q1156) rfl rfl rfl (by decide +kernel) ⟨Nat.le_of_ble_eq_true rfl, Nat.le_of_ble_eq_true rfl⟩) (hx_recv hU hH (ci := 3) rfl ho) rfl hl.1 rfl (Nat.le_of_ble_eq_true rfl) dL_law_1164 ⟨(show _ ≤ 1200144 by omega), (show _ ≤ 5497210 by omega)⟩ (fun i_160 w H locs hH h => ?_)
          refine lv_iload hx hb dL_law_1167 (lv_at hl 1 rfl) ?_
          refine lv_icmp_eq hx hb dL_law_1169 (tgt := 1174) (by decide) (fun c_161 => ?_) (fun c_161 => ?_)
          · have h := h.1 c_161
            refine lv_iload hx hb dL_law_1174 (lv_at hl 1 rfl) ?_
            refine lv_if_ne hx hb dL_law_1176 (tgt := 1191) (by decide) (fun c_162 => ?_) (fun c_162 => ?_)
            · have h := h.2 c_162
              refine W.widen (k := cl23 + 2) (n := sl23 + 262) (by omega) (by omega) ?_
              exact b1191 _ _ _ _ _ h _ _ _ hH (lv_sub hl [2, 3, 4, 5, 6] rfl)
            · have h := h.1 c_162
              refine hx_aload_n C0 dL_law_1179 rfl (lv_at hl 5 rfl) ?_
              refine lv_iconst (v := 0) hx hb dL_law_1180 (by decide) ?_
              refine hx_aJ C0 hU hH h dL_law_1181 (fun l_163 h => ?_)
              refine lv_iload hx hb dL_law_1182 (lv_at hl 0 rfl) ?_
              refine lv_i2l hx hb dL_law_1184 rfl ?_
              refine W.lcmp hx hb dL_law_1185 ?_
              refine lv_if_eq hx hb dL_law_1186 (tgt := 1191) (by decide) (fun c_164 => ?_) (fun c_164 => ?_)
              · have h := h.1 c_164
                refine W.widen (k := cl23 + 2) (n := sl23 + 262) (by omega) (by omega) ?_
                exact b1191 _ _ _ _ _ h _ _ _ hH (lv_sub hl [2, 3, 4, 5, 6] rfl)
              · have h := h.2 c_164
                refine lv_iconst (v := 0) hx hb dL_law_1189 (by decide) ?_
                exact h.elim
          · have h := h.2 c_161
            refine lv_iconst (v := 0) hx hb dL_law_1172 (by decide) ?_
            exact h.elim
        have h := h.2 c_165
        have nc_165 : ¬ (i_3).toInt = 13 := hx_ni c_165 rfl
        by_cases c_169 : i_3 = 14
        · have h := h.1 c_169
          have zc_169 : (i_3).toInt = 14 := by rw [c_169]; rfl
          refine lv_tableIn hx hb dL_law_39 (by rw [zc_169]; decide) (by rw [zc_169]; decide) (by rw [zc_169]; rfl) (tgt := 1194) (by decide) ?_
          refine hx_aload_n C0 dL_law_1194 rfl (lv_at hl 1 rfl) ?_
          obtain ⟨ho, h⟩ := h
          refine hx_Vi C0 hU hH (As := []) (wk_X1_now l h) (cwV 0 hts (lw_V q294 q295 q296 q60 q297) rfl rfl rfl (by decide +kernel) ⟨Nat.le_of_ble_eq_true rfl, Nat.le_of_ble_eq_true rfl⟩) (hx_recv hU hH (ci := 0) rfl ho) rfl hl.1 rfl (Nat.le_of_ble_eq_true rfl) dL_law_1195 ⟨(show _ ≤ 1200144 by omega), (show _ ≤ 5497210 by omega)⟩ (fun i_166 w H locs hH h => ?_)
          refine hx_aload_n C0 dL_law_1198 rfl (lv_at hl 2 rfl) ?_
          obtain ⟨ho, h⟩ := h
          refine hx_Vi C0 hU hH (As := []) (wk_X4_now l h) (cwV 0 hts (lw_V q1374 q1375 q1376 q71 q1377) rfl rfl rfl (by decide +kernel) ⟨Nat.le_of_ble_eq_true rfl, Nat.le_of_ble_eq_true rfl⟩) (hx_recv hU hH (ci := 3) rfl ho) rfl hl.1 rfl (Nat.le_of_ble_eq_true rfl) dL_law_1199 ⟨(show _ ≤ 1200144 by omega), (show _ ≤ 5497210 by omega)⟩ (fun i_167 w H locs hH h => ?_)
          refine lv_icmp_eq hx hb dL_law_1202 (tgt := 2529) (by decide) (fun c_168 => ?_) (fun c_168 => ?_)
          · have h := h.1 c_168
            refine W.widen (k := cl23 + 150) (n := sl23 + 16853) (by omega) (by omega) ?_
            exact b2529 _ _ _ _ _ h _ _ _ hH (lv_sub hl [0, 1, 2, 3, 4] rfl)
          · have h := h.2 c_168
            refine lv_iconst (v := 0) hx hb dL_law_1205 (by decide) ?_
            exact h.elim
        have h := h.2 c_169
        have nc_169 : ¬ (i_3).toInt = 14 := hx_ni c_169 rfl
        by_cases c_173 : i_3 = 15
        · have h := h.1 c_173
          have zc_173 : (i_3).toInt = 15 := by rw [c_173]; rfl
          refine lv_tableIn hx hb dL_law_39 (by rw [zc_173]; decide) (by rw [zc_173]; decide) (by rw [zc_173]; rfl) (tgt := 1207) (by decide) ?_
          refine hx_aload_n C0 dL_law_1207 rfl (lv_at hl 1 rfl) ?_
          obtain ⟨ho, h⟩ := h
          refine hx_Vi C0 hU hH (As := []) (wk_X1_letters l h) (cwV 0 hts (lw_V q298 q299 q300 q60 q301) rfl rfl rfl (by decide +kernel) ⟨Nat.le_of_ble_eq_true rfl, Nat.le_of_ble_eq_true rfl⟩) (hx_recv hU hH (ci := 0) rfl ho) rfl hl.1 rfl (Nat.le_of_ble_eq_true rfl) dL_law_1208 ⟨(show _ ≤ 1200144 by omega), (show _ ≤ 5497210 by omega)⟩ (fun i_170 w H locs hH h => ?_)
          refine hx_aload_n C0 dL_law_1211 rfl (lv_at hl 2 rfl) ?_
          obtain ⟨ho, h⟩ := h
          refine hx_Vi C0 hU hH (As := []) (wk_X4_letters l h) (cwV 0 hts (lw_V q1378 q1379 q1380 q71 q1381) rfl rfl rfl (by decide +kernel) ⟨Nat.le_of_ble_eq_true rfl, Nat.le_of_ble_eq_true rfl⟩) (hx_recv hU hH (ci := 3) rfl ho) rfl hl.1 rfl (Nat.le_of_ble_eq_true rfl) dL_law_1212 ⟨(show _ ≤ 1200144 by omega), (show _ ≤ 5497210 by omega)⟩ (fun i_171 w H locs hH h => ?_)
          refine lv_icmp_eq hx hb dL_law_1215 (tgt := 2529) (by decide) (fun c_172 => ?_) (fun c_172 => ?_)
          · have h := h.1 c_172
            refine W.widen (k := cl23 + 150) (n := sl23 + 16853) (by omega) (by omega) ?_
            exact b2529 _ _ _ _ _ h _ _ _ hH (lv_sub hl [0, 1, 2, 3, 4] rfl)
          · have h := h.2 c_172
            refine lv_iconst (v := 0) hx hb dL_law_1218 (by decide) ?_
            exact h.elim
        have h := h.2 c_173
        have nc_173 : ¬ (i_3).toInt = 15 := hx_ni c_173 rfl
        by_cases c_185 : i_3 = 16
        · have h := h.1 c_185
          have zc_185 : (i_3).toInt = 16 := by rw [c_185]; rfl
          refine lv_tableIn hx hb dL_law_39 (by rw [zc_185]; decide) (by rw [zc_185]; decide) (by rw [zc_185]; rfl) (tgt := 1220) (by decide) ?_
          refine hx_aload_n C0 dL_law_1220 rfl (lv_at hl 1 rfl) ?_
          refine hx_aload_n C0 dL_law_1221 rfl (lv_at hl 0 rfl) ?_
          refine lv_iload hx hb dL_law_1222 (lv_at hl 4 rfl) ?_
          refine lv_iconst (v := 1) hx hb dL_law_1224 (by decide) ?_
          refine lv_iadd hx hb dL_law_1225 ?_
          obtain ⟨hg, h⟩ := h
          refine va_sld hx hb hX hbl hbA hH.2 hg dL_law_1226 ?_
          refine lv_topi (fun i_174 ei_174 => ?_)
          have h := h i_174 ei_174
          refine hx_aload_n C0 dL_law_1227 rfl (lv_at hl 0 rfl) ?_
          refine lv_iload hx hb dL_law_1228 (lv_at hl 4 rfl) ?_
          refine lv_iconst (v := 2) hx hb dL_law_1230 (by decide) ?_
          refine lv_iadd hx hb dL_law_1231 ?_
          obtain ⟨hg, h⟩ := h
          refine va_sld hx hb hX hbl hbA hH.2 hg dL_law_1232 ?_
          refine lv_topi (fun i_175 ei_175 => ?_)
          have h := h i_175 ei_175
          refine hx_aload_n C0 dL_law_1233 rfl (lv_at hl 3 rfl) ?_
          refine hx_SWi C0 hU hH (As := [va_rf (some a1), .int i_174, .int i_175, va_rf (some a3)]) (wk_X0_letter l hst h) (vx_cwSW 4 hts (lw_SW q924 q925 q59 q926) rfl rfl rfl (by decide +kernel) ⟨Nat.le_of_ble_eq_true rfl, Nat.le_of_ble_eq_true rfl⟩) rfl hl.1 rfl (Nat.le_of_ble_eq_true rfl) dL_law_1234 ⟨(show _ ≤ 1200144 by omega), (show _ ≤ 5497210 by omega)⟩ (fun i_176 w H locs hH h => ?_)
          refine lv_istore hx hb dL_law_1237 hl (by decide) (lv' := [(5, .int i_176), (0, va_rf (some b)), (1, va_rf (some a1)), (2, va_rf (some a2)), (3, va_rf (some a3)), (4, .int x4)]) rfl (fun ls hl => ?_)
          refine hx_aload_n C0 dL_law_1239 rfl (lv_at hl 3 rfl) ?_
          refine hx_aload_n C0 dL_law_1240 rfl (lv_at hl 1 rfl) ?_
          refine lv_iload hx hb dL_law_1241 (lv_at hl 5 rfl) ?_
          refine lv_iconst (v := 1) hx hb dL_law_1243 (by decide) ?_
          refine lv_iadd hx hb dL_law_1244 ?_
          obtain ⟨hg, h⟩ := h
          refine va_sld hx hb hX hbl hbA hH.2 hg dL_law_1245 ?_
          refine lv_topi (fun i_177 ei_177 => ?_)
          have h := h i_177 ei_177
          refine hx_aload_n C0 dL_law_1246 rfl (lv_at hl 1 rfl) ?_
          refine lv_iload hx hb dL_law_1247 (lv_at hl 5 rfl) ?_
          refine lv_iconst (v := 2) hx hb dL_law_1249 (by decide) ?_
          refine lv_iadd hx hb dL_law_1250 ?_
          obtain ⟨hg, h⟩ := h
          refine va_sld hx hb hX hbl hbA hH.2 hg dL_law_1251 ?_
          refine lv_topi (fun i_178 ei_178 => ?_)
          have h := h i_178 ei_178
          obtain ⟨ho, h⟩ := h
          refine hx_Vi C0 hU hH (As := [.int i_177, .int i_178]) (wk_X4_letter l h) (cwV 2 hts (lw_V q1382 q1383 q1384 q71 q1385) rfl rfl rfl (by decide +kernel) ⟨Nat.le_of_ble_eq_true rfl, Nat.le_of_ble_eq_true rfl⟩) (hx_recv hU hH (ci := 3) rfl ho) rfl hl.1 rfl (Nat.le_of_ble_eq_true rfl) dL_law_1252 ⟨(show _ ≤ 1200144 by omega), (show _ ≤ 5497210 by omega)⟩ (fun i_179 w H locs hH h => ?_)
          refine lv_istore hx hb dL_law_1255 hl (by decide) (lv' := [(6, .int i_179), (5, .int i_176), (0, va_rf (some b)), (1, va_rf (some a1)), (2, va_rf (some a2)), (3, va_rf (some a3)), (4, .int x4)]) rfl (fun ls hl => ?_)
          refine hx_aload_n C0 dL_law_1257 rfl (lv_at hl 4 rfl) ?_
          obtain ⟨ho, h⟩ := h
          refine hx_Vi C0 hU hH (As := []) (wk_X4_thrown l h) (cwV 0 hts (lw_V q1153 q1154 q1155 q71 q1156) rfl rfl rfl (by decide +kernel) ⟨Nat.le_of_ble_eq_true rfl, Nat.le_of_ble_eq_true rfl⟩) (hx_recv hU hH (ci := 3) rfl ho) rfl hl.1 rfl (Nat.le_of_ble_eq_true rfl) dL_law_1258 ⟨(show _ ≤ 1200144 by omega), (show _ ≤ 5497210 by omega)⟩ (fun i_180 w H locs hH h => ?_)
          refine lv_iload hx hb dL_law_1261 (lv_at hl 1 rfl) ?_
          refine lv_icmp_eq hx hb dL_law_1263 (tgt := 1268) (by decide) (fun c_181 => ?_) (fun c_181 => ?_)
          · have h := h.1 c_181
            refine lv_iload hx hb dL_law_1268 (lv_at hl 1 rfl) ?_
            refine lv_if_ne hx hb dL_law_1270 (tgt := 1285) (by decide) (fun c_182 => ?_) (fun c_182 => ?_)
            · have h := h.2 c_182
              refine W.widen (k := cl23 + 2) (n := sl23 + 12) (by omega) (by omega) ?_
              exact b1285 _ _ _ _ _ h _ _ _ hH (lv_sub hl [2, 3, 4, 5, 6] rfl)
            · have h := h.1 c_182
              refine hx_aload_n C0 dL_law_1273 rfl (lv_at hl 5 rfl) ?_
              refine lv_iconst (v := 0) hx hb dL_law_1274 (by decide) ?_
              refine hx_aJ C0 hU hH h dL_law_1275 (fun l_183 h => ?_)
              refine lv_iload hx hb dL_law_1276 (lv_at hl 0 rfl) ?_
              refine lv_i2l hx hb dL_law_1278 rfl ?_
              refine W.lcmp hx hb dL_law_1279 ?_
              refine lv_if_eq hx hb dL_law_1280 (tgt := 1285) (by decide) (fun c_184 => ?_) (fun c_184 => ?_)
              · have h := h.1 c_184
                refine W.widen (k := cl23 + 2) (n := sl23 + 12) (by omega) (by omega) ?_
                exact b1285 _ _ _ _ _ h _ _ _ hH (lv_sub hl [2, 3, 4, 5, 6] rfl)
              · have h := h.2 c_184
                refine lv_iconst (v := 0) hx hb dL_law_1283 (by decide) ?_
                exact h.elim
          · have h := h.2 c_181
            refine lv_iconst (v := 0) hx hb dL_law_1266 (by decide) ?_
            exact h.elim
        have h := h.2 c_185
        have nc_185 : ¬ (i_3).toInt = 16 := hx_ni c_185 rfl
        by_cases c_195 : i_3 = 17
        · have h := h.1 c_195
          have zc_195 : (i_3).toInt = 17 := by rw [c_195]; rfl
          refine lv_tableIn hx hb dL_law_39 (by rw [zc_195]; decide) (by rw [zc_195]; decide) (by rw [zc_195]; rfl) (tgt := 1288) (by decide) ?_
          refine hx_aload_n C0 dL_law_1288 rfl (lv_at hl 1 rfl) ?_
          refine hx_aload_n C0 dL_law_1289 rfl (lv_at hl 0 rfl) ?_
          refine lv_iload hx hb dL_law_1290 (lv_at hl 4 rfl) ?_
          refine lv_iconst (v := 1) hx hb dL_law_1292 (by decide) ?_
          refine lv_iadd hx hb dL_law_1293 ?_
          obtain ⟨hg, h⟩ := h
          refine va_sld hx hb hX hbl hbA hH.2 hg dL_law_1294 ?_
          refine lv_topi (fun i_186 ei_186 => ?_)
          have h := h i_186 ei_186
          refine hx_aload_n C0 dL_law_1295 rfl (lv_at hl 3 rfl) ?_
          refine hx_SWi C0 hU hH (As := [va_rf (some a1), .int i_186, va_rf (some a3)]) (wk_X0_isTurned l hst h) (vx_cwSW 3 hts (lw_SW q932 q933 q59 q934) rfl rfl rfl (by decide +kernel) ⟨Nat.le_of_ble_eq_true rfl, Nat.le_of_ble_eq_true rfl⟩) rfl hl.1 rfl (Nat.le_of_ble_eq_true rfl) dL_law_1296 ⟨(show _ ≤ 1200144 by omega), (show _ ≤ 5497210 by omega)⟩ (fun i_187 w H locs hH h => ?_)
          refine lv_istore hx hb dL_law_1299 hl (by decide) (lv' := [(5, .int i_187), (0, va_rf (some b)), (1, va_rf (some a1)), (2, va_rf (some a2)), (3, va_rf (some a3)), (4, .int x4)]) rfl (fun ls hl => ?_)
          refine hx_aload_n C0 dL_law_1301 rfl (lv_at hl 3 rfl) ?_
          refine hx_aload_n C0 dL_law_1302 rfl (lv_at hl 1 rfl) ?_
          refine lv_iload hx hb dL_law_1303 (lv_at hl 5 rfl) ?_
          refine lv_iconst (v := 1) hx hb dL_law_1305 (by decide) ?_
          refine lv_iadd hx hb dL_law_1306 ?_
          obtain ⟨hg, h⟩ := h
          refine va_sld hx hb hX hbl hbA hH.2 hg dL_law_1307 ?_
          refine lv_topi (fun i_188 ei_188 => ?_)
          have h := h i_188 ei_188
          obtain ⟨ho, h⟩ := h
          refine hx_Vi C0 hU hH (As := [.int i_188]) (wk_X4_isTurned l h) (cwV 1 hts (lw_V q1386 q1387 q1388 q71 q1389) rfl rfl rfl (by decide +kernel) ⟨Nat.le_of_ble_eq_true rfl, Nat.le_of_ble_eq_true rfl⟩) (hx_recv hU hH (ci := 3) rfl ho) rfl hl.1 rfl (Nat.le_of_ble_eq_true rfl) dL_law_1308 ⟨(show _ ≤ 1200144 by omega), (show _ ≤ 5497210 by omega)⟩ (fun i_189 w H locs hH h => ?_)
          refine lv_istore hx hb dL_law_1311 hl (by decide) (lv' := [(6, .int i_189), (5, .int i_187), (0, va_rf (some b)), (1, va_rf (some a1)), (2, va_rf (some a2)), (3, va_rf (some a3)), (4, .int x4)]) rfl (fun ls hl => ?_)
          refine hx_aload_n C0 dL_law_1313 rfl (lv_at hl 4 rfl) ?_
          obtain ⟨ho, h⟩ := h
          refine hx_Vi C0 hU hH (As := []) (wk_X4_thrown l h) (cwV 0 hts (lw_V q1153 q1154 q1155 q71 q1156) rfl rfl rfl (by decide +kernel) ⟨Nat.le_of_ble_eq_true rfl, Nat.le_of_ble_eq_true rfl⟩) (hx_recv hU hH (ci := 3) rfl ho) rfl hl.1 rfl (Nat.le_of_ble_eq_true rfl) dL_law_1314 ⟨(show _ ≤ 1200144 by omega), (show _ ≤ 5497210 by omega)⟩ (fun i_190 w H locs hH h => ?_)
          refine lv_iload hx hb dL_law_1317 (lv_at hl 1 rfl) ?_
          refine lv_icmp_eq hx hb dL_law_1319 (tgt := 1324) (by decide) (fun c_191 => ?_) (fun c_191 => ?_)
          · have h := h.1 c_191
            refine lv_iload hx hb dL_law_1324 (lv_at hl 1 rfl) ?_
            refine lv_if_ne hx hb dL_law_1326 (tgt := 1348) (by decide) (fun c_192 => ?_) (fun c_192 => ?_)
            · have h := h.2 c_192
              refine W.widen (k := cl23 + 1) (n := sl23 + 6) (by omega) (by omega) ?_
              exact b1348 _ _ _ _ _ h _ _ _ hH (lv_sub hl [2, 3, 4, 5, 6] rfl)
            · have h := h.1 c_192
              refine hx_aload_n C0 dL_law_1329 rfl (lv_at hl 5 rfl) ?_
              refine lv_iconst (v := 0) hx hb dL_law_1330 (by decide) ?_
              refine hx_aJ C0 hU hH h dL_law_1331 (fun l_193 h => ?_)
              refine lv_iload hx hb dL_law_1332 (lv_at hl 0 rfl) ?_
              refine lv_if_eq hx hb dL_law_1334 (tgt := 1341) (by decide) (fun c_194 => ?_) (fun c_194 => ?_)
              · have h := h.1 c_194
                refine lv_lconst (v := 0) hx hb dL_law_1341 (by decide) ?_
                refine W.widen (k := cl23 + 1) (n := sl23 + 6) (by omega) (by omega) ?_
                exact b1342 _ _ _ _ _ _ _ h _ _ _ hH (lv_sub hl [2, 3, 4, 5, 6] rfl)
              · have h := h.2 c_194
                refine lv_lconst (v := 1) hx hb dL_law_1337 (by decide) ?_
                refine lv_goto hx hb dL_law_1338 (tgt := 1342) (by decide) ?_
                refine W.widen (k := cl23 + 1) (n := sl23 + 6) (by omega) (by omega) ?_
                exact b1342 _ _ _ _ _ _ _ h _ _ _ hH (lv_sub hl [2, 3, 4, 5, 6] rfl)
          · have h := h.2 c_191
            refine lv_iconst (v := 0) hx hb dL_law_1322 (by decide) ?_
            exact h.elim
        have h := h.2 c_195
        have nc_195 : ¬ (i_3).toInt = 17 := hx_ni c_195 rfl
        by_cases c_205 : i_3 = 18
        · have h := h.1 c_205
          have zc_205 : (i_3).toInt = 18 := by rw [c_205]; rfl
          refine lv_tableIn hx hb dL_law_39 (by rw [zc_205]; decide) (by rw [zc_205]; decide) (by rw [zc_205]; rfl) (tgt := 1351) (by decide) ?_
          refine hx_aload_n C0 dL_law_1351 rfl (lv_at hl 1 rfl) ?_
          refine hx_aload_n C0 dL_law_1352 rfl (lv_at hl 0 rfl) ?_
          refine lv_iload hx hb dL_law_1353 (lv_at hl 4 rfl) ?_
          refine lv_iconst (v := 1) hx hb dL_law_1355 (by decide) ?_
          refine lv_iadd hx hb dL_law_1356 ?_
          obtain ⟨hg, h⟩ := h
          refine va_sld hx hb hX hbl hbA hH.2 hg dL_law_1357 ?_
          refine lv_topi (fun i_196 ei_196 => ?_)
          have h := h i_196 ei_196
          refine hx_aload_n C0 dL_law_1358 rfl (lv_at hl 3 rfl) ?_
          refine hx_SWi C0 hU hH (As := [va_rf (some a1), .int i_196, va_rf (some a3)]) (wk_X0_address l hst h) (vx_cwSW 3 hts (lw_SW q939 q940 q59 q941) rfl rfl rfl (by decide +kernel) ⟨Nat.le_of_ble_eq_true rfl, Nat.le_of_ble_eq_true rfl⟩) rfl hl.1 rfl (Nat.le_of_ble_eq_true rfl) dL_law_1359 ⟨(show _ ≤ 1200144 by omega), (show _ ≤ 5497210 by omega)⟩ (fun i_197 w H locs hH h => ?_)
          refine lv_istore hx hb dL_law_1362 hl (by decide) (lv' := [(5, .int i_197), (0, va_rf (some b)), (1, va_rf (some a1)), (2, va_rf (some a2)), (3, va_rf (some a3)), (4, .int x4)]) rfl (fun ls hl => ?_)
          refine hx_aload_n C0 dL_law_1364 rfl (lv_at hl 3 rfl) ?_
          refine hx_aload_n C0 dL_law_1365 rfl (lv_at hl 1 rfl) ?_
          refine lv_iload hx hb dL_law_1366 (lv_at hl 5 rfl) ?_
          refine lv_iconst (v := 1) hx hb dL_law_1368 (by decide) ?_
          refine lv_iadd hx hb dL_law_1369 ?_
          obtain ⟨hg, h⟩ := h
          refine va_sld hx hb hX hbl hbA hH.2 hg dL_law_1370 ?_
          refine lv_topi (fun i_198 ei_198 => ?_)
          have h := h i_198 ei_198
          obtain ⟨ho, h⟩ := h
          refine hx_Vi C0 hU hH (As := [.int i_198]) (wk_X4_address l h) (cwV 1 hts (lw_V q1394 q1395 q1396 q71 q1397) rfl rfl rfl (by decide +kernel) ⟨Nat.le_of_ble_eq_true rfl, Nat.le_of_ble_eq_true rfl⟩) (hx_recv hU hH (ci := 3) rfl ho) rfl hl.1 rfl (Nat.le_of_ble_eq_true rfl) dL_law_1371 ⟨(show _ ≤ 1200144 by omega), (show _ ≤ 5497210 by omega)⟩ (fun i_199 w H locs hH h => ?_)
          refine lv_istore hx hb dL_law_1374 hl (by decide) (lv' := [(6, .int i_199), (5, .int i_197), (0, va_rf (some b)), (1, va_rf (some a1)), (2, va_rf (some a2)), (3, va_rf (some a3)), (4, .int x4)]) rfl (fun ls hl => ?_)
          refine hx_aload_n C0 dL_law_1376 rfl (lv_at hl 4 rfl) ?_
          obtain ⟨ho, h⟩ := h
          refine hx_Vi C0 hU hH (As := []) (wk_X4_thrown l h) (cwV 0 hts (lw_V q1153 q1154 q1155 q71 q1156) rfl rfl rfl (by decide +kernel) ⟨Nat.le_of_ble_eq_true rfl, Nat.le_of_ble_eq_true rfl⟩) (hx_recv hU hH (ci := 3) rfl ho) rfl hl.1 rfl (Nat.le_of_ble_eq_true rfl) dL_law_1377 ⟨(show _ ≤ 1200144 by omega), (show _ ≤ 5497210 by omega)⟩ (fun i_200 w H locs hH h => ?_)
          refine lv_iload hx hb dL_law_1380 (lv_at hl 1 rfl) ?_
          refine lv_icmp_eq hx hb dL_law_1382 (tgt := 1387) (by decide) (fun c_201 => ?_) (fun c_201 => ?_)
          · have h := h.1 c_201
            refine lv_iload hx hb dL_law_1387 (lv_at hl 1 rfl) ?_
            refine lv_if_ne hx hb dL_law_1389 (tgt := 1404) (by decide) (fun c_202 => ?_) (fun c_202 => ?_)
            · have h := h.2 c_202
              refine W.widen (k := cl23 + 1) (n := sl23 + 6) (by omega) (by omega) ?_
              exact b1404 _ _ _ _ _ h _ _ _ hH (lv_sub hl [2, 3, 4, 5, 6] rfl)
            · have h := h.1 c_202
              refine hx_aload_n C0 dL_law_1392 rfl (lv_at hl 5 rfl) ?_
              refine lv_iconst (v := 0) hx hb dL_law_1393 (by decide) ?_
              refine hx_aJ C0 hU hH h dL_law_1394 (fun l_203 h => ?_)
              refine lv_iload hx hb dL_law_1395 (lv_at hl 0 rfl) ?_
              refine lv_i2l hx hb dL_law_1397 rfl ?_
              refine W.lcmp hx hb dL_law_1398 ?_
              refine lv_if_eq hx hb dL_law_1399 (tgt := 1404) (by decide) (fun c_204 => ?_) (fun c_204 => ?_)
              · have h := h.1 c_204
                refine W.widen (k := cl23 + 1) (n := sl23 + 6) (by omega) (by omega) ?_
                exact b1404 _ _ _ _ _ h _ _ _ hH (lv_sub hl [2, 3, 4, 5, 6] rfl)
              · have h := h.2 c_204
                refine lv_iconst (v := 0) hx hb dL_law_1402 (by decide) ?_
                exact h.elim
          · have h := h.2 c_201
            refine lv_iconst (v := 0) hx hb dL_law_1385 (by decide) ?_
            exact h.elim
        have h := h.2 c_205
        have nc_205 : ¬ (i_3).toInt = 18 := hx_ni c_205 rfl
        by_cases c_217 : i_3 = 19
        · have h := h.1 c_217
          have zc_217 : (i_3).toInt = 19 := by rw [c_217]; rfl
          refine lv_tableIn hx hb dL_law_39 (by rw [zc_217]; decide) (by rw [zc_217]; decide) (by rw [zc_217]; rfl) (tgt := 1407) (by decide) ?_
          refine hx_aload_n C0 dL_law_1407 rfl (lv_at hl 1 rfl) ?_
          refine hx_aload_n C0 dL_law_1408 rfl (lv_at hl 0 rfl) ?_
          refine lv_iload hx hb dL_law_1409 (lv_at hl 4 rfl) ?_
          refine lv_iconst (v := 1) hx hb dL_law_1411 (by decide) ?_
          refine lv_iadd hx hb dL_law_1412 ?_
          obtain ⟨hg, h⟩ := h
          refine va_sld hx hb hX hbl hbA hH.2 hg dL_law_1413 ?_
          refine lv_topi (fun i_206 ei_206 => ?_)
          have h := h i_206 ei_206
          refine hx_aload_n C0 dL_law_1414 rfl (lv_at hl 0 rfl) ?_
          refine lv_iload hx hb dL_law_1415 (lv_at hl 4 rfl) ?_
          refine lv_iconst (v := 2) hx hb dL_law_1417 (by decide) ?_
          refine lv_iadd hx hb dL_law_1418 ?_
          obtain ⟨hg, h⟩ := h
          refine va_sld hx hb hX hbl hbA hH.2 hg dL_law_1419 ?_
          refine lv_topi (fun i_207 ei_207 => ?_)
          have h := h i_207 ei_207
          refine hx_aload_n C0 dL_law_1420 rfl (lv_at hl 3 rfl) ?_
          refine hx_SWi C0 hU hH (As := [va_rf (some a1), .int i_206, .int i_207, va_rf (some a3)]) (wk_X0_known l hst h) (vx_cwSW 4 hts (lw_SW q946 q947 q59 q948) rfl rfl rfl (by decide +kernel) ⟨Nat.le_of_ble_eq_true rfl, Nat.le_of_ble_eq_true rfl⟩) rfl hl.1 rfl (Nat.le_of_ble_eq_true rfl) dL_law_1421 ⟨(show _ ≤ 1200144 by omega), (show _ ≤ 5497210 by omega)⟩ (fun i_208 w H locs hH h => ?_)
          refine lv_istore hx hb dL_law_1424 hl (by decide) (lv' := [(5, .int i_208), (0, va_rf (some b)), (1, va_rf (some a1)), (2, va_rf (some a2)), (3, va_rf (some a3)), (4, .int x4)]) rfl (fun ls hl => ?_)
          refine hx_aload_n C0 dL_law_1426 rfl (lv_at hl 3 rfl) ?_
          refine hx_aload_n C0 dL_law_1427 rfl (lv_at hl 1 rfl) ?_
          refine lv_iload hx hb dL_law_1428 (lv_at hl 5 rfl) ?_
          refine lv_iconst (v := 1) hx hb dL_law_1430 (by decide) ?_
          refine lv_iadd hx hb dL_law_1431 ?_
          obtain ⟨hg, h⟩ := h
          refine va_sld hx hb hX hbl hbA hH.2 hg dL_law_1432 ?_
          refine lv_topi (fun i_209 ei_209 => ?_)
          have h := h i_209 ei_209
          refine hx_aload_n C0 dL_law_1433 rfl (lv_at hl 1 rfl) ?_
          refine lv_iload hx hb dL_law_1434 (lv_at hl 5 rfl) ?_
          refine lv_iconst (v := 2) hx hb dL_law_1436 (by decide) ?_
          refine lv_iadd hx hb dL_law_1437 ?_
          obtain ⟨hg, h⟩ := h
          refine va_sld hx hb hX hbl hbA hH.2 hg dL_law_1438 ?_
          refine lv_topi (fun i_210 ei_210 => ?_)
          have h := h i_210 ei_210
          obtain ⟨ho, h⟩ := h
          refine hx_Vi C0 hU hH (As := [.int i_209, .int i_210]) (wk_X4_known l h) (cwV 2 hts (lw_V q1398 q1399 q1400 q71 q1401) rfl rfl rfl (by decide +kernel) ⟨Nat.le_of_ble_eq_true rfl, Nat.le_of_ble_eq_true rfl⟩) (hx_recv hU hH (ci := 3) rfl ho) rfl hl.1 rfl (Nat.le_of_ble_eq_true rfl) dL_law_1439 ⟨(show _ ≤ 1200144 by omega), (show _ ≤ 5497210 by omega)⟩ (fun i_211 w H locs hH h => ?_)
          refine lv_istore hx hb dL_law_1442 hl (by decide) (lv' := [(6, .int i_211), (5, .int i_208), (0, va_rf (some b)), (1, va_rf (some a1)), (2, va_rf (some a2)), (3, va_rf (some a3)), (4, .int x4)]) rfl (fun ls hl => ?_)
          refine hx_aload_n C0 dL_law_1444 rfl (lv_at hl 4 rfl) ?_
          obtain ⟨ho, h⟩ := h
          refine hx_Vi C0 hU hH (As := []) (wk_X4_thrown l h) (cwV 0 hts (lw_V q1153 q1154 q1155 q71 q1156) rfl rfl rfl (by decide +kernel) ⟨Nat.le_of_ble_eq_true rfl, Nat.le_of_ble_eq_true rfl⟩) (hx_recv hU hH (ci := 3) rfl ho) rfl hl.1 rfl (Nat.le_of_ble_eq_true rfl) dL_law_1445 ⟨(show _ ≤ 1200144 by omega), (show _ ≤ 5497210 by omega)⟩ (fun i_212 w H locs hH h => ?_)
          refine lv_iload hx hb dL_law_1448 (lv_at hl 1 rfl) ?_
          refine lv_icmp_eq hx hb dL_law_1450 (tgt := 1455) (by decide) (fun c_213 => ?_) (fun c_213 => ?_)
          · have h := h.1 c_213
            refine lv_iload hx hb dL_law_1455 (lv_at hl 1 rfl) ?_
            refine lv_if_ne hx hb dL_law_1457 (tgt := 1472) (by decide) (fun c_214 => ?_) (fun c_214 => ?_)
            · have h := h.2 c_214
              refine W.widen (k := cl23 + 3) (n := sl23 + 18) (by omega) (by omega) ?_
              exact b1472 _ _ _ _ _ h _ _ _ hH (lv_sub hl [2, 3, 4, 5, 6] rfl)
            · have h := h.1 c_214
              refine hx_aload_n C0 dL_law_1460 rfl (lv_at hl 5 rfl) ?_
              refine lv_iconst (v := 0) hx hb dL_law_1461 (by decide) ?_
              refine hx_aJ C0 hU hH h dL_law_1462 (fun l_215 h => ?_)
              refine lv_iload hx hb dL_law_1463 (lv_at hl 0 rfl) ?_
              refine lv_i2l hx hb dL_law_1465 rfl ?_
              refine W.lcmp hx hb dL_law_1466 ?_
              refine lv_if_eq hx hb dL_law_1467 (tgt := 1472) (by decide) (fun c_216 => ?_) (fun c_216 => ?_)
              · have h := h.1 c_216
                refine W.widen (k := cl23 + 3) (n := sl23 + 18) (by omega) (by omega) ?_
                exact b1472 _ _ _ _ _ h _ _ _ hH (lv_sub hl [2, 3, 4, 5, 6] rfl)
              · have h := h.2 c_216
                refine lv_iconst (v := 0) hx hb dL_law_1470 (by decide) ?_
                exact h.elim
          · have h := h.2 c_213
            refine lv_iconst (v := 0) hx hb dL_law_1453 (by decide) ?_
            exact h.elim
        have h := h.2 c_217
        have nc_217 : ¬ (i_3).toInt = 19 := hx_ni c_217 rfl
        by_cases c_229 : i_3 = 20
        · have h := h.1 c_229
          have zc_229 : (i_3).toInt = 20 := by rw [c_229]; rfl
          refine lv_tableIn hx hb dL_law_39 (by rw [zc_229]; decide) (by rw [zc_229]; decide) (by rw [zc_229]; rfl) (tgt := 1475) (by decide) ?_
          refine hx_aload_n C0 dL_law_1475 rfl (lv_at hl 1 rfl) ?_
          refine hx_aload_n C0 dL_law_1476 rfl (lv_at hl 0 rfl) ?_
          refine lv_iload hx hb dL_law_1477 (lv_at hl 4 rfl) ?_
          refine lv_iconst (v := 1) hx hb dL_law_1479 (by decide) ?_
          refine lv_iadd hx hb dL_law_1480 ?_
          obtain ⟨hg, h⟩ := h
          refine va_sld hx hb hX hbl hbA hH.2 hg dL_law_1481 ?_
          refine lv_topi (fun i_218 ei_218 => ?_)
          have h := h i_218 ei_218
          refine hx_aload_n C0 dL_law_1482 rfl (lv_at hl 0 rfl) ?_
          refine lv_iload hx hb dL_law_1483 (lv_at hl 4 rfl) ?_
          refine lv_iconst (v := 2) hx hb dL_law_1485 (by decide) ?_
          refine lv_iadd hx hb dL_law_1486 ?_
          obtain ⟨hg, h⟩ := h
          refine va_sld hx hb hX hbl hbA hH.2 hg dL_law_1487 ?_
          refine lv_topi (fun i_219 ei_219 => ?_)
          have h := h i_219 ei_219
          refine hx_aload_n C0 dL_law_1488 rfl (lv_at hl 3 rfl) ?_
          refine hx_SWi C0 hU hH (As := [va_rf (some a1), .int i_218, .int i_219, va_rf (some a3)]) (wk_X0_route l hst h) (vx_cwSW 4 hts (lw_SW q953 q954 q59 q955) rfl rfl rfl (by decide +kernel) ⟨Nat.le_of_ble_eq_true rfl, Nat.le_of_ble_eq_true rfl⟩) rfl hl.1 rfl (Nat.le_of_ble_eq_true rfl) dL_law_1489 ⟨(show _ ≤ 1200144 by omega), (show _ ≤ 5497210 by omega)⟩ (fun i_220 w H locs hH h => ?_)
          refine lv_istore hx hb dL_law_1492 hl (by decide) (lv' := [(5, .int i_220), (0, va_rf (some b)), (1, va_rf (some a1)), (2, va_rf (some a2)), (3, va_rf (some a3)), (4, .int x4)]) rfl (fun ls hl => ?_)
          refine hx_aload_n C0 dL_law_1494 rfl (lv_at hl 3 rfl) ?_
          refine hx_aload_n C0 dL_law_1495 rfl (lv_at hl 1 rfl) ?_
          refine lv_iload hx hb dL_law_1496 (lv_at hl 5 rfl) ?_
          refine lv_iconst (v := 1) hx hb dL_law_1498 (by decide) ?_
          refine lv_iadd hx hb dL_law_1499 ?_
          obtain ⟨hg, h⟩ := h
          refine va_sld hx hb hX hbl hbA hH.2 hg dL_law_1500 ?_
          refine lv_topi (fun i_221 ei_221 => ?_)
          have h := h i_221 ei_221
          refine hx_aload_n C0 dL_law_1501 rfl (lv_at hl 1 rfl) ?_
          refine lv_iload hx hb dL_law_1502 (lv_at hl 5 rfl) ?_
          refine lv_iconst (v := 2) hx hb dL_law_1504 (by decide) ?_
          refine lv_iadd hx hb dL_law_1505 ?_
          obtain ⟨hg, h⟩ := h
          refine va_sld hx hb hX hbl hbA hH.2 hg dL_law_1506 ?_
          refine lv_topi (fun i_222 ei_222 => ?_)
          have h := h i_222 ei_222
          obtain ⟨ho, h⟩ := h
          refine hx_Vi C0 hU hH (As := [.int i_221, .int i_222]) (wk_X4_route l h) (cwV 2 hts (lw_V q1402 q1403 q1404 q71 q1405) rfl rfl rfl (by decide +kernel) ⟨Nat.le_of_ble_eq_true rfl, Nat.le_of_ble_eq_true rfl⟩) (hx_recv hU hH (ci := 3) rfl ho) rfl hl.1 rfl (Nat.le_of_ble_eq_true rfl) dL_law_1507 ⟨(show _ ≤ 1200144 by omega), (show _ ≤ 5497210 by omega)⟩ (fun i_223 w H locs hH h => ?_)
          refine lv_istore hx hb dL_law_1510 hl (by decide) (lv' := [(6, .int i_223), (5, .int i_220), (0, va_rf (some b)), (1, va_rf (some a1)), (2, va_rf (some a2)), (3, va_rf (some a3)), (4, .int x4)]) rfl (fun ls hl => ?_)
          refine hx_aload_n C0 dL_law_1512 rfl (lv_at hl 4 rfl) ?_
          obtain ⟨ho, h⟩ := h
          refine hx_Vi C0 hU hH (As := []) (wk_X4_thrown l h) (cwV 0 hts (lw_V q1153 q1154 q1155 q71 q1156) rfl rfl rfl (by decide +kernel) ⟨Nat.le_of_ble_eq_true rfl, Nat.le_of_ble_eq_true rfl⟩) (hx_recv hU hH (ci := 3) rfl ho) rfl hl.1 rfl (Nat.le_of_ble_eq_true rfl) dL_law_1513 ⟨(show _ ≤ 1200144 by omega), (show _ ≤ 5497210 by omega)⟩ (fun i_224 w H locs hH h => ?_)
          refine lv_iload hx hb dL_law_1516 (lv_at hl 1 rfl) ?_
          refine lv_icmp_eq hx hb dL_law_1518 (tgt := 1523) (by decide) (fun c_225 => ?_) (fun c_225 => ?_)
          · have h := h.1 c_225
            refine lv_iload hx hb dL_law_1523 (lv_at hl 1 rfl) ?_
            refine lv_if_ne hx hb dL_law_1525 (tgt := 1540) (by decide) (fun c_226 => ?_) (fun c_226 => ?_)
            · have h := h.2 c_226
              refine W.widen (k := cl23 + 2) (n := sl23 + 12) (by omega) (by omega) ?_
              exact b1540 _ _ _ _ _ h _ _ _ hH (lv_sub hl [2, 3, 4, 5, 6] rfl)
            · have h := h.1 c_226
              refine hx_aload_n C0 dL_law_1528 rfl (lv_at hl 5 rfl) ?_
              refine lv_iconst (v := 0) hx hb dL_law_1529 (by decide) ?_
              refine hx_aJ C0 hU hH h dL_law_1530 (fun l_227 h => ?_)
              refine lv_iload hx hb dL_law_1531 (lv_at hl 0 rfl) ?_
              refine lv_i2l hx hb dL_law_1533 rfl ?_
              refine W.lcmp hx hb dL_law_1534 ?_
              refine lv_if_eq hx hb dL_law_1535 (tgt := 1540) (by decide) (fun c_228 => ?_) (fun c_228 => ?_)
              · have h := h.1 c_228
                refine W.widen (k := cl23 + 2) (n := sl23 + 12) (by omega) (by omega) ?_
                exact b1540 _ _ _ _ _ h _ _ _ hH (lv_sub hl [2, 3, 4, 5, 6] rfl)
              · have h := h.2 c_228
                refine lv_iconst (v := 0) hx hb dL_law_1538 (by decide) ?_
                exact h.elim
          · have h := h.2 c_225
            refine lv_iconst (v := 0) hx hb dL_law_1521 (by decide) ?_
            exact h.elim
        have h := h.2 c_229
        have nc_229 : ¬ (i_3).toInt = 20 := hx_ni c_229 rfl
        by_cases c_245 : i_3 = 21
        · have h := h.1 c_245
          have zc_245 : (i_3).toInt = 21 := by rw [c_245]; rfl
          refine lv_tableIn hx hb dL_law_39 (by rw [zc_245]; decide) (by rw [zc_245]; decide) (by rw [zc_245]; rfl) (tgt := 1543) (by decide) ?_
          refine hx_aload_n C0 dL_law_1543 rfl (lv_at hl 1 rfl) ?_
          refine hx_aload_n C0 dL_law_1544 rfl (lv_at hl 0 rfl) ?_
          refine lv_iload hx hb dL_law_1545 (lv_at hl 4 rfl) ?_
          refine lv_iconst (v := 1) hx hb dL_law_1547 (by decide) ?_
          refine lv_iadd hx hb dL_law_1548 ?_
          obtain ⟨hg, h⟩ := h
          refine va_sld hx hb hX hbl hbA hH.2 hg dL_law_1549 ?_
          refine lv_topi (fun i_230 ei_230 => ?_)
          have h := h i_230 ei_230
          refine hx_aload_n C0 dL_law_1550 rfl (lv_at hl 0 rfl) ?_
          refine lv_iload hx hb dL_law_1551 (lv_at hl 4 rfl) ?_
          refine lv_iconst (v := 2) hx hb dL_law_1553 (by decide) ?_
          refine lv_iadd hx hb dL_law_1554 ?_
          obtain ⟨hg, h⟩ := h
          refine va_sld hx hb hX hbl hbA hH.2 hg dL_law_1555 ?_
          refine lv_topi (fun i_231 ei_231 => ?_)
          have h := h i_231 ei_231
          refine hx_aload_n C0 dL_law_1556 rfl (lv_at hl 0 rfl) ?_
          refine lv_iload hx hb dL_law_1557 (lv_at hl 4 rfl) ?_
          refine lv_iconst (v := 3) hx hb dL_law_1559 (by decide) ?_
          refine lv_iadd hx hb dL_law_1560 ?_
          obtain ⟨hg, h⟩ := h
          refine va_sld hx hb hX hbl hbA hH.2 hg dL_law_1561 ?_
          refine lv_topi (fun i_232 ei_232 => ?_)
          have h := h i_232 ei_232
          refine hx_aload_n C0 dL_law_1562 rfl (lv_at hl 0 rfl) ?_
          refine lv_iload hx hb dL_law_1563 (lv_at hl 4 rfl) ?_
          refine lv_iconst (v := 4) hx hb dL_law_1565 (by decide) ?_
          refine lv_iadd hx hb dL_law_1566 ?_
          obtain ⟨hg, h⟩ := h
          refine va_sld hx hb hX hbl hbA hH.2 hg dL_law_1567 ?_
          refine lv_topi (fun i_233 ei_233 => ?_)
          have h := h i_233 ei_233
          refine hx_aload_n C0 dL_law_1568 rfl (lv_at hl 3 rfl) ?_
          refine hx_SWi C0 hU hH (As := [va_rf (some a1), .int i_230, .int i_231, .int i_232, .int i_233, va_rf (some a3)]) (wk_X0_session l hst h) (vx_cwSW 6 hts (lw_SW q961 q962 q59 q963) rfl rfl rfl (by decide +kernel) ⟨Nat.le_of_ble_eq_true rfl, Nat.le_of_ble_eq_true rfl⟩) rfl hl.1 rfl (Nat.le_of_ble_eq_true rfl) dL_law_1569 ⟨(show _ ≤ 1200144 by omega), (show _ ≤ 5497210 by omega)⟩ (fun i_234 w H locs hH h => ?_)
          refine lv_istore hx hb dL_law_1572 hl (by decide) (lv' := [(5, .int i_234), (0, va_rf (some b)), (1, va_rf (some a1)), (2, va_rf (some a2)), (3, va_rf (some a3)), (4, .int x4)]) rfl (fun ls hl => ?_)
          refine hx_aload_n C0 dL_law_1574 rfl (lv_at hl 3 rfl) ?_
          refine hx_aload_n C0 dL_law_1575 rfl (lv_at hl 1 rfl) ?_
          refine lv_iload hx hb dL_law_1576 (lv_at hl 5 rfl) ?_
          refine lv_iconst (v := 1) hx hb dL_law_1578 (by decide) ?_
          refine lv_iadd hx hb dL_law_1579 ?_
          obtain ⟨hg, h⟩ := h
          refine va_sld hx hb hX hbl hbA hH.2 hg dL_law_1580 ?_
          refine lv_topi (fun i_235 ei_235 => ?_)
          have h := h i_235 ei_235
          refine hx_aload_n C0 dL_law_1581 rfl (lv_at hl 1 rfl) ?_
          refine lv_iload hx hb dL_law_1582 (lv_at hl 5 rfl) ?_
          refine lv_iconst (v := 2) hx hb dL_law_1584 (by decide) ?_
          refine lv_iadd hx hb dL_law_1585 ?_
          obtain ⟨hg, h⟩ := h
          refine va_sld hx hb hX hbl hbA hH.2 hg dL_law_1586 ?_
          refine lv_topi (fun i_236 ei_236 => ?_)
          have h := h i_236 ei_236
          refine hx_aload_n C0 dL_law_1587 rfl (lv_at hl 1 rfl) ?_
          refine lv_iload hx hb dL_law_1588 (lv_at hl 5 rfl) ?_
          refine lv_iconst (v := 3) hx hb dL_law_1590 (by decide) ?_
          refine lv_iadd hx hb dL_law_1591 ?_
          obtain ⟨hg, h⟩ := h
          refine va_sld hx hb hX hbl hbA hH.2 hg dL_law_1592 ?_
          refine lv_topi (fun i_237 ei_237 => ?_)
          have h := h i_237 ei_237
          refine hx_aload_n C0 dL_law_1593 rfl (lv_at hl 1 rfl) ?_
          refine lv_iload hx hb dL_law_1594 (lv_at hl 5 rfl) ?_
          refine lv_iconst (v := 4) hx hb dL_law_1596 (by decide) ?_
          refine lv_iadd hx hb dL_law_1597 ?_
          obtain ⟨hg, h⟩ := h
          refine va_sld hx hb hX hbl hbA hH.2 hg dL_law_1598 ?_
          refine lv_topi (fun i_238 ei_238 => ?_)
          have h := h i_238 ei_238
          obtain ⟨ho, h⟩ := h
          refine hx_Vi C0 hU hH (As := [.int i_235, .int i_236, .int i_237, .int i_238]) (wk_X4_session l h) (cwV 4 hts (lw_V q1406 q1407 q1408 q71 q1409) rfl rfl rfl (by decide +kernel) ⟨Nat.le_of_ble_eq_true rfl, Nat.le_of_ble_eq_true rfl⟩) (hx_recv hU hH (ci := 3) rfl ho) rfl hl.1 rfl (Nat.le_of_ble_eq_true rfl) dL_law_1599 ⟨(show _ ≤ 1200144 by omega), (show _ ≤ 5497210 by omega)⟩ (fun i_239 w H locs hH h => ?_)
          refine lv_istore hx hb dL_law_1602 hl (by decide) (lv' := [(6, .int i_239), (5, .int i_234), (0, va_rf (some b)), (1, va_rf (some a1)), (2, va_rf (some a2)), (3, va_rf (some a3)), (4, .int x4)]) rfl (fun ls hl => ?_)
          refine hx_aload_n C0 dL_law_1604 rfl (lv_at hl 4 rfl) ?_
          obtain ⟨ho, h⟩ := h
          refine hx_Vi C0 hU hH (As := []) (wk_X4_thrown l h) (cwV 0 hts (lw_V q1153 q1154 q1155 q71 q1156) rfl rfl rfl (by decide +kernel) ⟨Nat.le_of_ble_eq_true rfl, Nat.le_of_ble_eq_true rfl⟩) (hx_recv hU hH (ci := 3) rfl ho) rfl hl.1 rfl (Nat.le_of_ble_eq_true rfl) dL_law_1605 ⟨(show _ ≤ 1200144 by omega), (show _ ≤ 5497210 by omega)⟩ (fun i_240 w H locs hH h => ?_)
          refine lv_iload hx hb dL_law_1608 (lv_at hl 1 rfl) ?_
          refine lv_icmp_eq hx hb dL_law_1610 (tgt := 1615) (by decide) (fun c_241 => ?_) (fun c_241 => ?_)
          · have h := h.1 c_241
            refine lv_iload hx hb dL_law_1615 (lv_at hl 1 rfl) ?_
            refine lv_if_ne hx hb dL_law_1617 (tgt := 1632) (by decide) (fun c_242 => ?_) (fun c_242 => ?_)
            · have h := h.2 c_242
              refine W.widen (k := cl23 + 4) (n := sl23 + 24) (by omega) (by omega) ?_
              exact b1632 _ _ _ _ _ h _ _ _ hH (lv_sub hl [2, 3, 4, 5, 6] rfl)
            · have h := h.1 c_242
              refine hx_aload_n C0 dL_law_1620 rfl (lv_at hl 5 rfl) ?_
              refine lv_iconst (v := 0) hx hb dL_law_1621 (by decide) ?_
              refine hx_aJ C0 hU hH h dL_law_1622 (fun l_243 h => ?_)
              refine lv_iload hx hb dL_law_1623 (lv_at hl 0 rfl) ?_
              refine lv_i2l hx hb dL_law_1625 rfl ?_
              refine W.lcmp hx hb dL_law_1626 ?_
              refine lv_if_eq hx hb dL_law_1627 (tgt := 1632) (by decide) (fun c_244 => ?_) (fun c_244 => ?_)
              · have h := h.1 c_244
                refine W.widen (k := cl23 + 4) (n := sl23 + 24) (by omega) (by omega) ?_
                exact b1632 _ _ _ _ _ h _ _ _ hH (lv_sub hl [2, 3, 4, 5, 6] rfl)
              · have h := h.2 c_244
                refine lv_iconst (v := 0) hx hb dL_law_1630 (by decide) ?_
                exact h.elim
          · have h := h.2 c_241
            refine lv_iconst (v := 0) hx hb dL_law_1613 (by decide) ?_
            exact h.elim
        have h := h.2 c_245
        have nc_245 : ¬ (i_3).toInt = 21 := hx_ni c_245 rfl
        by_cases c_257 : i_3 = 22
        · have h := h.1 c_257
          have zc_257 : (i_3).toInt = 22 := by rw [c_257]; rfl
          refine lv_tableIn hx hb dL_law_39 (by rw [zc_257]; decide) (by rw [zc_257]; decide) (by rw [zc_257]; rfl) (tgt := 1635) (by decide) ?_
          refine hx_aload_n C0 dL_law_1635 rfl (lv_at hl 1 rfl) ?_
          refine hx_aload_n C0 dL_law_1636 rfl (lv_at hl 0 rfl) ?_
          refine lv_iload hx hb dL_law_1637 (lv_at hl 4 rfl) ?_
          refine lv_iconst (v := 1) hx hb dL_law_1639 (by decide) ?_
          refine lv_iadd hx hb dL_law_1640 ?_
          obtain ⟨hg, h⟩ := h
          refine va_sld hx hb hX hbl hbA hH.2 hg dL_law_1641 ?_
          refine lv_topi (fun i_246 ei_246 => ?_)
          have h := h i_246 ei_246
          refine hx_aload_n C0 dL_law_1642 rfl (lv_at hl 0 rfl) ?_
          refine lv_iload hx hb dL_law_1643 (lv_at hl 4 rfl) ?_
          refine lv_iconst (v := 2) hx hb dL_law_1645 (by decide) ?_
          refine lv_iadd hx hb dL_law_1646 ?_
          obtain ⟨hg, h⟩ := h
          refine va_sld hx hb hX hbl hbA hH.2 hg dL_law_1647 ?_
          refine lv_topi (fun i_247 ei_247 => ?_)
          have h := h i_247 ei_247
          refine hx_aload_n C0 dL_law_1648 rfl (lv_at hl 3 rfl) ?_
          refine hx_SWi C0 hU hH (As := [va_rf (some a1), .int i_246, .int i_247, va_rf (some a3)]) (wk_X0_isUsable l hst h) (vx_cwSW 4 hts (lw_SW q969 q970 q59 q971) rfl rfl rfl (by decide +kernel) ⟨Nat.le_of_ble_eq_true rfl, Nat.le_of_ble_eq_true rfl⟩) rfl hl.1 rfl (Nat.le_of_ble_eq_true rfl) dL_law_1649 ⟨(show _ ≤ 1200144 by omega), (show _ ≤ 5497210 by omega)⟩ (fun i_248 w H locs hH h => ?_)
          refine lv_istore hx hb dL_law_1652 hl (by decide) (lv' := [(5, .int i_248), (0, va_rf (some b)), (1, va_rf (some a1)), (2, va_rf (some a2)), (3, va_rf (some a3)), (4, .int x4)]) rfl (fun ls hl => ?_)
          refine hx_aload_n C0 dL_law_1654 rfl (lv_at hl 3 rfl) ?_
          refine hx_aload_n C0 dL_law_1655 rfl (lv_at hl 1 rfl) ?_
          refine lv_iload hx hb dL_law_1656 (lv_at hl 5 rfl) ?_
          refine lv_iconst (v := 1) hx hb dL_law_1658 (by decide) ?_
          refine lv_iadd hx hb dL_law_1659 ?_
          obtain ⟨hg, h⟩ := h
          refine va_sld hx hb hX hbl hbA hH.2 hg dL_law_1660 ?_
          refine lv_topi (fun i_249 ei_249 => ?_)
          have h := h i_249 ei_249
          refine hx_aload_n C0 dL_law_1661 rfl (lv_at hl 1 rfl) ?_
          refine lv_iload hx hb dL_law_1662 (lv_at hl 5 rfl) ?_
          refine lv_iconst (v := 2) hx hb dL_law_1664 (by decide) ?_
          refine lv_iadd hx hb dL_law_1665 ?_
          obtain ⟨hg, h⟩ := h
          refine va_sld hx hb hX hbl hbA hH.2 hg dL_law_1666 ?_
          refine lv_topi (fun i_250 ei_250 => ?_)
          have h := h i_250 ei_250
          obtain ⟨ho, h⟩ := h
          refine hx_Vi C0 hU hH (As := [.int i_249, .int i_250]) (wk_X4_isUsable l h) (cwV 2 hts (lw_V q1410 q1411 q1412 q71 q1413) rfl rfl rfl (by decide +kernel) ⟨Nat.le_of_ble_eq_true rfl, Nat.le_of_ble_eq_true rfl⟩) (hx_recv hU hH (ci := 3) rfl ho) rfl hl.1 rfl (Nat.le_of_ble_eq_true rfl) dL_law_1667 ⟨(show _ ≤ 1200144 by omega), (show _ ≤ 5497210 by omega)⟩ (fun i_251 w H locs hH h => ?_)
          refine lv_istore hx hb dL_law_1670 hl (by decide) (lv' := [(6, .int i_251), (5, .int i_248), (0, va_rf (some b)), (1, va_rf (some a1)), (2, va_rf (some a2)), (3, va_rf (some a3)), (4, .int x4)]) rfl (fun ls hl => ?_)
          refine hx_aload_n C0 dL_law_1672 rfl (lv_at hl 4 rfl) ?_
          obtain ⟨ho, h⟩ := h
          refine hx_Vi C0 hU hH (As := []) (wk_X4_thrown l h) (cwV 0 hts (lw_V q1153 q1154 q1155 q71 q1156) rfl rfl rfl (by decide +kernel) ⟨Nat.le_of_ble_eq_true rfl, Nat.le_of_ble_eq_true rfl⟩) (hx_recv hU hH (ci := 3) rfl ho) rfl hl.1 rfl (Nat.le_of_ble_eq_true rfl) dL_law_1673 ⟨(show _ ≤ 1200144 by omega), (show _ ≤ 5497210 by omega)⟩ (fun i_252 w H locs hH h => ?_)
          refine lv_iload hx hb dL_law_1676 (lv_at hl 1 rfl) ?_
          refine lv_icmp_eq hx hb dL_law_1678 (tgt := 1683) (by decide) (fun c_253 => ?_) (fun c_253 => ?_)
          · have h := h.1 c_253
            refine lv_iload hx hb dL_law_1683 (lv_at hl 1 rfl) ?_
            refine lv_if_ne hx hb dL_law_1685 (tgt := 1707) (by decide) (fun c_254 => ?_) (fun c_254 => ?_)
            · have h := h.2 c_254
              refine W.widen (k := cl23 + 3) (n := sl23 + 18) (by omega) (by omega) ?_
              exact b1707 _ _ _ _ _ h _ _ _ hH (lv_sub hl [2, 3, 4, 5, 6] rfl)
            · have h := h.1 c_254
              refine hx_aload_n C0 dL_law_1688 rfl (lv_at hl 5 rfl) ?_
              refine lv_iconst (v := 0) hx hb dL_law_1689 (by decide) ?_
              refine hx_aJ C0 hU hH h dL_law_1690 (fun l_255 h => ?_)
              refine lv_iload hx hb dL_law_1691 (lv_at hl 0 rfl) ?_
              refine lv_if_eq hx hb dL_law_1693 (tgt := 1700) (by decide) (fun c_256 => ?_) (fun c_256 => ?_)
              · have h := h.1 c_256
                refine lv_lconst (v := 0) hx hb dL_law_1700 (by decide) ?_
                refine W.widen (k := cl23 + 3) (n := sl23 + 18) (by omega) (by omega) ?_
                exact b1701 _ _ _ _ _ _ _ h _ _ _ hH (lv_sub hl [2, 3, 4, 5, 6] rfl)
              · have h := h.2 c_256
                refine lv_lconst (v := 1) hx hb dL_law_1696 (by decide) ?_
                refine lv_goto hx hb dL_law_1697 (tgt := 1701) (by decide) ?_
                refine W.widen (k := cl23 + 3) (n := sl23 + 18) (by omega) (by omega) ?_
                exact b1701 _ _ _ _ _ _ _ h _ _ _ hH (lv_sub hl [2, 3, 4, 5, 6] rfl)
          · have h := h.2 c_253
            refine lv_iconst (v := 0) hx hb dL_law_1681 (by decide) ?_
            exact h.elim
        have h := h.2 c_257
        have nc_257 : ¬ (i_3).toInt = 22 := hx_ni c_257 rfl
        by_cases c_269 : i_3 = 23
        · have h := h.1 c_269
          have zc_269 : (i_3).toInt = 23 := by rw [c_269]; rfl
          refine lv_tableIn hx hb dL_law_39 (by rw [zc_269]; decide) (by rw [zc_269]; decide) (by rw [zc_269]; rfl) (tgt := 1710) (by decide) ?_
          refine hx_aload_n C0 dL_law_1710 rfl (lv_at hl 1 rfl) ?_
          refine hx_aload_n C0 dL_law_1711 rfl (lv_at hl 0 rfl) ?_
          refine lv_iload hx hb dL_law_1712 (lv_at hl 4 rfl) ?_
          refine lv_iconst (v := 1) hx hb dL_law_1714 (by decide) ?_
          refine lv_iadd hx hb dL_law_1715 ?_
          obtain ⟨hg, h⟩ := h
          refine va_sld hx hb hX hbl hbA hH.2 hg dL_law_1716 ?_
          refine lv_topi (fun i_258 ei_258 => ?_)
          have h := h i_258 ei_258
          refine hx_aload_n C0 dL_law_1717 rfl (lv_at hl 0 rfl) ?_
          refine lv_iload hx hb dL_law_1718 (lv_at hl 4 rfl) ?_
          refine lv_iconst (v := 2) hx hb dL_law_1720 (by decide) ?_
          refine lv_iadd hx hb dL_law_1721 ?_
          obtain ⟨hg, h⟩ := h
          refine va_sld hx hb hX hbl hbA hH.2 hg dL_law_1722 ?_
          refine lv_topi (fun i_259 ei_259 => ?_)
          have h := h i_259 ei_259
          refine hx_aload_n C0 dL_law_1723 rfl (lv_at hl 3 rfl) ?_
          refine hx_SWi C0 hU hH (As := [va_rf (some a1), .int i_258, .int i_259, va_rf (some a3)]) (wk_X0_flight l hst h) (vx_cwSW 4 hts (lw_SW q976 q977 q59 q978) rfl rfl rfl (by decide +kernel) ⟨Nat.le_of_ble_eq_true rfl, Nat.le_of_ble_eq_true rfl⟩) rfl hl.1 rfl (Nat.le_of_ble_eq_true rfl) dL_law_1724 ⟨(show _ ≤ 1200144 by omega), (show _ ≤ 5497210 by omega)⟩ (fun i_260 w H locs hH h => ?_)
          refine lv_istore hx hb dL_law_1727 hl (by decide) (lv' := [(5, .int i_260), (0, va_rf (some b)), (1, va_rf (some a1)), (2, va_rf (some a2)), (3, va_rf (some a3)), (4, .int x4)]) rfl (fun ls hl => ?_)
          refine hx_aload_n C0 dL_law_1729 rfl (lv_at hl 3 rfl) ?_
          refine hx_aload_n C0 dL_law_1730 rfl (lv_at hl 1 rfl) ?_
          refine lv_iload hx hb dL_law_1731 (lv_at hl 5 rfl) ?_
          refine lv_iconst (v := 1) hx hb dL_law_1733 (by decide) ?_
          refine lv_iadd hx hb dL_law_1734 ?_
          obtain ⟨hg, h⟩ := h
          refine va_sld hx hb hX hbl hbA hH.2 hg dL_law_1735 ?_
          refine lv_topi (fun i_261 ei_261 => ?_)
          have h := h i_261 ei_261
          refine hx_aload_n C0 dL_law_1736 rfl (lv_at hl 1 rfl) ?_
          refine lv_iload hx hb dL_law_1737 (lv_at hl 5 rfl) ?_
          refine lv_iconst (v := 2) hx hb dL_law_1739 (by decide) ?_
          refine lv_iadd hx hb dL_law_1740 ?_
          obtain ⟨hg, h⟩ := h
          refine va_sld hx hb hX hbl hbA hH.2 hg dL_law_1741 ?_
          refine lv_topi (fun i_262 ei_262 => ?_)
          have h := h i_262 ei_262
          obtain ⟨ho, h⟩ := h
          refine hx_Vi C0 hU hH (As := [.int i_261, .int i_262]) (wk_X4_flight l h) (cwV 2 hts (lw_V q1414 q1415 q1416 q71 q1417) rfl rfl rfl (by decide +kernel) ⟨Nat.le_of_ble_eq_true rfl, Nat.le_of_ble_eq_true rfl⟩) (hx_recv hU hH (ci := 3) rfl ho) rfl hl.1 rfl (Nat.le_of_ble_eq_true rfl) dL_law_1742 ⟨(show _ ≤ 1200144 by omega), (show _ ≤ 5497210 by omega)⟩ (fun i_263 w H locs hH h => ?_)
          refine lv_istore hx hb dL_law_1745 hl (by decide) (lv' := [(6, .int i_263), (5, .int i_260), (0, va_rf (some b)), (1, va_rf (some a1)), (2, va_rf (some a2)), (3, va_rf (some a3)), (4, .int x4)]) rfl (fun ls hl => ?_)
          refine hx_aload_n C0 dL_law_1747 rfl (lv_at hl 4 rfl) ?_
          obtain ⟨ho, h⟩ := h
          refine hx_Vi C0 hU hH (As := []) (wk_X4_thrown l h) (cwV 0 hts (lw_V q1153 q1154 q1155 q71 q1156) rfl rfl rfl (by decide +kernel) ⟨Nat.le_of_ble_eq_true rfl, Nat.le_of_ble_eq_true rfl⟩) (hx_recv hU hH (ci := 3) rfl ho) rfl hl.1 rfl (Nat.le_of_ble_eq_true rfl) dL_law_1748 ⟨(show _ ≤ 1200144 by omega), (show _ ≤ 5497210 by omega)⟩ (fun i_264 w H locs hH h => ?_)
          refine lv_iload hx hb dL_law_1751 (lv_at hl 1 rfl) ?_
          refine lv_icmp_eq hx hb dL_law_1753 (tgt := 1758) (by decide) (fun c_265 => ?_) (fun c_265 => ?_)
          · have h := h.1 c_265
            refine lv_iload hx hb dL_law_1758 (lv_at hl 1 rfl) ?_
            refine lv_if_ne hx hb dL_law_1760 (tgt := 1775) (by decide) (fun c_266 => ?_) (fun c_266 => ?_)
            · have h := h.2 c_266
              refine W.widen (k := cl23 + 3) (n := sl23 + 18) (by omega) (by omega) ?_
              exact b1775 _ _ _ _ _ h _ _ _ hH (lv_sub hl [2, 3, 4, 5, 6] rfl)
            · have h := h.1 c_266
              refine hx_aload_n C0 dL_law_1763 rfl (lv_at hl 5 rfl) ?_
              refine lv_iconst (v := 0) hx hb dL_law_1764 (by decide) ?_
              refine hx_aJ C0 hU hH h dL_law_1765 (fun l_267 h => ?_)
              refine lv_iload hx hb dL_law_1766 (lv_at hl 0 rfl) ?_
              refine lv_i2l hx hb dL_law_1768 rfl ?_
              refine W.lcmp hx hb dL_law_1769 ?_
              refine lv_if_eq hx hb dL_law_1770 (tgt := 1775) (by decide) (fun c_268 => ?_) (fun c_268 => ?_)
              · have h := h.1 c_268
                refine W.widen (k := cl23 + 3) (n := sl23 + 18) (by omega) (by omega) ?_
                exact b1775 _ _ _ _ _ h _ _ _ hH (lv_sub hl [2, 3, 4, 5, 6] rfl)
              · have h := h.2 c_268
                refine lv_iconst (v := 0) hx hb dL_law_1773 (by decide) ?_
                exact h.elim
          · have h := h.2 c_265
            refine lv_iconst (v := 0) hx hb dL_law_1756 (by decide) ?_
            exact h.elim
        have h := h.2 c_269
        have nc_269 : ¬ (i_3).toInt = 23 := hx_ni c_269 rfl
        by_cases c_281 : i_3 = 24
        · have h := h.1 c_281
          have zc_281 : (i_3).toInt = 24 := by rw [c_281]; rfl
          refine lv_tableIn hx hb dL_law_39 (by rw [zc_281]; decide) (by rw [zc_281]; decide) (by rw [zc_281]; rfl) (tgt := 1778) (by decide) ?_
          refine hx_aload_n C0 dL_law_1778 rfl (lv_at hl 1 rfl) ?_
          refine hx_aload_n C0 dL_law_1779 rfl (lv_at hl 0 rfl) ?_
          refine lv_iload hx hb dL_law_1780 (lv_at hl 4 rfl) ?_
          refine lv_iconst (v := 1) hx hb dL_law_1782 (by decide) ?_
          refine lv_iadd hx hb dL_law_1783 ?_
          obtain ⟨hg, h⟩ := h
          refine va_sld hx hb hX hbl hbA hH.2 hg dL_law_1784 ?_
          refine lv_topi (fun i_270 ei_270 => ?_)
          have h := h i_270 ei_270
          refine hx_aload_n C0 dL_law_1785 rfl (lv_at hl 0 rfl) ?_
          refine lv_iload hx hb dL_law_1786 (lv_at hl 4 rfl) ?_
          refine lv_iconst (v := 2) hx hb dL_law_1788 (by decide) ?_
          refine lv_iadd hx hb dL_law_1789 ?_
          obtain ⟨hg, h⟩ := h
          refine va_sld hx hb hX hbl hbA hH.2 hg dL_law_1790 ?_
          refine lv_topi (fun i_271 ei_271 => ?_)
          have h := h i_271 ei_271
          refine hx_aload_n C0 dL_law_1791 rfl (lv_at hl 3 rfl) ?_
          refine hx_SWi C0 hU hH (As := [va_rf (some a1), .int i_270, .int i_271, va_rf (some a3)]) (wk_X0_waiting l hst h) (vx_cwSW 4 hts (lw_SW q983 q984 q59 q985) rfl rfl rfl (by decide +kernel) ⟨Nat.le_of_ble_eq_true rfl, Nat.le_of_ble_eq_true rfl⟩) rfl hl.1 rfl (Nat.le_of_ble_eq_true rfl) dL_law_1792 ⟨(show _ ≤ 1200144 by omega), (show _ ≤ 5497210 by omega)⟩ (fun i_272 w H locs hH h => ?_)
          refine lv_istore hx hb dL_law_1795 hl (by decide) (lv' := [(5, .int i_272), (0, va_rf (some b)), (1, va_rf (some a1)), (2, va_rf (some a2)), (3, va_rf (some a3)), (4, .int x4)]) rfl (fun ls hl => ?_)
          refine hx_aload_n C0 dL_law_1797 rfl (lv_at hl 3 rfl) ?_
          refine hx_aload_n C0 dL_law_1798 rfl (lv_at hl 1 rfl) ?_
          refine lv_iload hx hb dL_law_1799 (lv_at hl 5 rfl) ?_
          refine lv_iconst (v := 1) hx hb dL_law_1801 (by decide) ?_
          refine lv_iadd hx hb dL_law_1802 ?_
          obtain ⟨hg, h⟩ := h
          refine va_sld hx hb hX hbl hbA hH.2 hg dL_law_1803 ?_
          refine lv_topi (fun i_273 ei_273 => ?_)
          have h := h i_273 ei_273
          refine hx_aload_n C0 dL_law_1804 rfl (lv_at hl 1 rfl) ?_
          refine lv_iload hx hb dL_law_1805 (lv_at hl 5 rfl) ?_
          refine lv_iconst (v := 2) hx hb dL_law_1807 (by decide) ?_
          refine lv_iadd hx hb dL_law_1808 ?_
          obtain ⟨hg, h⟩ := h
          refine va_sld hx hb hX hbl hbA hH.2 hg dL_law_1809 ?_
          refine lv_topi (fun i_274 ei_274 => ?_)
          have h := h i_274 ei_274
          obtain ⟨ho, h⟩ := h
          refine hx_Vi C0 hU hH (As := [.int i_273, .int i_274]) (wk_X4_waiting l h) (cwV 2 hts (lw_V q1418 q1419 q1420 q71 q1421) rfl rfl rfl (by decide +kernel) ⟨Nat.le_of_ble_eq_true rfl, Nat.le_of_ble_eq_true rfl⟩) (hx_recv hU hH (ci := 3) rfl ho) rfl hl.1 rfl (Nat.le_of_ble_eq_true rfl) dL_law_1810 ⟨(show _ ≤ 1200144 by omega), (show _ ≤ 5497210 by omega)⟩ (fun i_275 w H locs hH h => ?_)
          refine lv_istore hx hb dL_law_1813 hl (by decide) (lv' := [(6, .int i_275), (5, .int i_272), (0, va_rf (some b)), (1, va_rf (some a1)), (2, va_rf (some a2)), (3, va_rf (some a3)), (4, .int x4)]) rfl (fun ls hl => ?_)
          refine hx_aload_n C0 dL_law_1815 rfl (lv_at hl 4 rfl) ?_
          obtain ⟨ho, h⟩ := h
          refine hx_Vi C0 hU hH (As := []) (wk_X4_thrown l h) (cwV 0 hts (lw_V q1153 q1154 q1155 q71 q1156) rfl rfl rfl (by decide +kernel) ⟨Nat.le_of_ble_eq_true rfl, Nat.le_of_ble_eq_true rfl⟩) (hx_recv hU hH (ci := 3) rfl ho) rfl hl.1 rfl (Nat.le_of_ble_eq_true rfl) dL_law_1816 ⟨(show _ ≤ 1200144 by omega), (show _ ≤ 5497210 by omega)⟩ (fun i_276 w H locs hH h => ?_)
          refine lv_iload hx hb dL_law_1819 (lv_at hl 1 rfl) ?_
          refine lv_icmp_eq hx hb dL_law_1821 (tgt := 1826) (by decide) (fun c_277 => ?_) (fun c_277 => ?_)
          · have h := h.1 c_277
            refine lv_iload hx hb dL_law_1826 (lv_at hl 1 rfl) ?_
            refine lv_if_ne hx hb dL_law_1828 (tgt := 1843) (by decide) (fun c_278 => ?_) (fun c_278 => ?_)
            · have h := h.2 c_278
              refine W.widen (k := cl23 + 3) (n := sl23 + 18) (by omega) (by omega) ?_
              exact b1843 _ _ _ _ _ h _ _ _ hH (lv_sub hl [2, 3, 4, 5, 6] rfl)
            · have h := h.1 c_278
              refine hx_aload_n C0 dL_law_1831 rfl (lv_at hl 5 rfl) ?_
              refine lv_iconst (v := 0) hx hb dL_law_1832 (by decide) ?_
              refine hx_aJ C0 hU hH h dL_law_1833 (fun l_279 h => ?_)
              refine lv_iload hx hb dL_law_1834 (lv_at hl 0 rfl) ?_
              refine lv_i2l hx hb dL_law_1836 rfl ?_
              refine W.lcmp hx hb dL_law_1837 ?_
              refine lv_if_eq hx hb dL_law_1838 (tgt := 1843) (by decide) (fun c_280 => ?_) (fun c_280 => ?_)
              · have h := h.1 c_280
                refine W.widen (k := cl23 + 3) (n := sl23 + 18) (by omega) (by omega) ?_
                exact b1843 _ _ _ _ _ h _ _ _ hH (lv_sub hl [2, 3, 4, 5, 6] rfl)
              · have h := h.2 c_280
                refine lv_iconst (v := 0) hx hb dL_law_1841 (by decide) ?_
                exact h.elim
          · have h := h.2 c_277
            refine lv_iconst (v := 0) hx hb dL_law_1824 (by decide) ?_
            exact h.elim
        have h := h.2 c_281
        have nc_281 : ¬ (i_3).toInt = 24 := hx_ni c_281 rfl
        by_cases c_293 : i_3 = 25
        · have h := h.1 c_293
          have zc_293 : (i_3).toInt = 25 := by rw [c_293]; rfl
          refine lv_tableIn hx hb dL_law_39 (by rw [zc_293]; decide) (by rw [zc_293]; decide) (by rw [zc_293]; rfl) (tgt := 1846) (by decide) ?_
          refine hx_aload_n C0 dL_law_1846 rfl (lv_at hl 1 rfl) ?_
          refine hx_aload_n C0 dL_law_1847 rfl (lv_at hl 0 rfl) ?_
          refine lv_iload hx hb dL_law_1848 (lv_at hl 4 rfl) ?_
          refine lv_iconst (v := 1) hx hb dL_law_1850 (by decide) ?_
          refine lv_iadd hx hb dL_law_1851 ?_
          obtain ⟨hg, h⟩ := h
          refine va_sld hx hb hX hbl hbA hH.2 hg dL_law_1852 ?_
          refine lv_topi (fun i_282 ei_282 => ?_)
          have h := h i_282 ei_282
          refine hx_aload_n C0 dL_law_1853 rfl (lv_at hl 0 rfl) ?_
          refine lv_iload hx hb dL_law_1854 (lv_at hl 4 rfl) ?_
          refine lv_iconst (v := 2) hx hb dL_law_1856 (by decide) ?_
          refine lv_iadd hx hb dL_law_1857 ?_
          obtain ⟨hg, h⟩ := h
          refine va_sld hx hb hX hbl hbA hH.2 hg dL_law_1858 ?_
          refine lv_topi (fun i_283 ei_283 => ?_)
          have h := h i_283 ei_283
          refine hx_aload_n C0 dL_law_1859 rfl (lv_at hl 3 rfl) ?_
          refine hx_SWi C0 hU hH (As := [va_rf (some a1), .int i_282, .int i_283, va_rf (some a3)]) (wk_X0_cookie l hst h) (vx_cwSW 4 hts (lw_SW q990 q991 q59 q992) rfl rfl rfl (by decide +kernel) ⟨Nat.le_of_ble_eq_true rfl, Nat.le_of_ble_eq_true rfl⟩) rfl hl.1 rfl (Nat.le_of_ble_eq_true rfl) dL_law_1860 ⟨(show _ ≤ 1200144 by omega), (show _ ≤ 5497210 by omega)⟩ (fun i_284 w H locs hH h => ?_)
          refine lv_istore hx hb dL_law_1863 hl (by decide) (lv' := [(5, .int i_284), (0, va_rf (some b)), (1, va_rf (some a1)), (2, va_rf (some a2)), (3, va_rf (some a3)), (4, .int x4)]) rfl (fun ls hl => ?_)
          refine hx_aload_n C0 dL_law_1865 rfl (lv_at hl 3 rfl) ?_
          refine hx_aload_n C0 dL_law_1866 rfl (lv_at hl 1 rfl) ?_
          refine lv_iload hx hb dL_law_1867 (lv_at hl 5 rfl) ?_
          refine lv_iconst (v := 1) hx hb dL_law_1869 (by decide) ?_
          refine lv_iadd hx hb dL_law_1870 ?_
          obtain ⟨hg, h⟩ := h
          refine va_sld hx hb hX hbl hbA hH.2 hg dL_law_1871 ?_
          refine lv_topi (fun i_285 ei_285 => ?_)
          have h := h i_285 ei_285
          refine hx_aload_n C0 dL_law_1872 rfl (lv_at hl 1 rfl) ?_
          refine lv_iload hx hb dL_law_1873 (lv_at hl 5 rfl) ?_
          refine lv_iconst (v := 2) hx hb dL_law_1875 (by decide) ?_
          refine lv_iadd hx hb dL_law_1876 ?_
          obtain ⟨hg, h⟩ := h
          refine va_sld hx hb hX hbl hbA hH.2 hg dL_law_1877 ?_
          refine lv_topi (fun i_286 ei_286 => ?_)
          have h := h i_286 ei_286
          obtain ⟨ho, h⟩ := h
          refine hx_Vi C0 hU hH (As := [.int i_285, .int i_286]) (wk_X4_cookie l h) (cwV 2 hts (lw_V q1422 q1423 q1424 q71 q1425) rfl rfl rfl (by decide +kernel) ⟨Nat.le_of_ble_eq_true rfl, Nat.le_of_ble_eq_true rfl⟩) (hx_recv hU hH (ci := 3) rfl ho) rfl hl.1 rfl (Nat.le_of_ble_eq_true rfl) dL_law_1878 ⟨(show _ ≤ 1200144 by omega), (show _ ≤ 5497210 by omega)⟩ (fun i_287 w H locs hH h => ?_)
          refine lv_istore hx hb dL_law_1881 hl (by decide) (lv' := [(6, .int i_287), (5, .int i_284), (0, va_rf (some b)), (1, va_rf (some a1)), (2, va_rf (some a2)), (3, va_rf (some a3)), (4, .int x4)]) rfl (fun ls hl => ?_)
          refine hx_aload_n C0 dL_law_1883 rfl (lv_at hl 4 rfl) ?_
          obtain ⟨ho, h⟩ := h
          refine hx_Vi C0 hU hH (As := []) (wk_X4_thrown l h) (cwV 0 hts (lw_V q1153 q1154 q1155 q71 q1156) rfl rfl rfl (by decide +kernel) ⟨Nat.le_of_ble_eq_true rfl, Nat.le_of_ble_eq_true rfl⟩) (hx_recv hU hH (ci := 3) rfl ho) rfl hl.1 rfl (Nat.le_of_ble_eq_true rfl) dL_law_1884 ⟨(show _ ≤ 1200144 by omega), (show _ ≤ 5497210 by omega)⟩ (fun i_288 w H locs hH h => ?_)
          refine lv_iload hx hb dL_law_1887 (lv_at hl 1 rfl) ?_
          refine lv_icmp_eq hx hb dL_law_1889 (tgt := 1894) (by decide) (fun c_289 => ?_) (fun c_289 => ?_)
          · have h := h.1 c_289
            refine lv_iload hx hb dL_law_1894 (lv_at hl 1 rfl) ?_
            refine lv_if_ne hx hb dL_law_1896 (tgt := 1911) (by decide) (fun c_290 => ?_) (fun c_290 => ?_)
            · have h := h.2 c_290
              refine W.widen (k := cl23 + 3) (n := sl23 + 18) (by omega) (by omega) ?_
              exact b1911 _ _ _ _ _ h _ _ _ hH (lv_sub hl [2, 3, 4, 5, 6] rfl)
            · have h := h.1 c_290
              refine hx_aload_n C0 dL_law_1899 rfl (lv_at hl 5 rfl) ?_
              refine lv_iconst (v := 0) hx hb dL_law_1900 (by decide) ?_
              refine hx_aJ C0 hU hH h dL_law_1901 (fun l_291 h => ?_)
              refine lv_iload hx hb dL_law_1902 (lv_at hl 0 rfl) ?_
              refine lv_i2l hx hb dL_law_1904 rfl ?_
              refine W.lcmp hx hb dL_law_1905 ?_
              refine lv_if_eq hx hb dL_law_1906 (tgt := 1911) (by decide) (fun c_292 => ?_) (fun c_292 => ?_)
              · have h := h.1 c_292
                refine W.widen (k := cl23 + 3) (n := sl23 + 18) (by omega) (by omega) ?_
                exact b1911 _ _ _ _ _ h _ _ _ hH (lv_sub hl [2, 3, 4, 5, 6] rfl)
              · have h := h.2 c_292
                refine lv_iconst (v := 0) hx hb dL_law_1909 (by decide) ?_
                exact h.elim
          · have h := h.2 c_289
            refine lv_iconst (v := 0) hx hb dL_law_1892 (by decide) ?_
            exact h.elim
        have h := h.2 c_293
        have nc_293 : ¬ (i_3).toInt = 25 := hx_ni c_293 rfl
        by_cases c_298 : i_3 = 26
        · have h := h.1 c_298
          have zc_298 : (i_3).toInt = 26 := by rw [c_298]; rfl
          refine lv_tableIn hx hb dL_law_39 (by rw [zc_298]; decide) (by rw [zc_298]; decide) (by rw [zc_298]; rfl) (tgt := 1914) (by decide) ?_
          refine hx_aload_n C0 dL_law_1914 rfl (lv_at hl 1 rfl) ?_
          refine hx_aload_n C0 dL_law_1915 rfl (lv_at hl 0 rfl) ?_
          refine lv_iload hx hb dL_law_1916 (lv_at hl 4 rfl) ?_
          refine lv_iconst (v := 1) hx hb dL_law_1918 (by decide) ?_
          refine lv_iadd hx hb dL_law_1919 ?_
          obtain ⟨hg, h⟩ := h
          refine va_sld hx hb hX hbl hbA hH.2 hg dL_law_1920 ?_
          refine lv_topi (fun i_294 ei_294 => ?_)
          have h := h i_294 ei_294
          refine hx_aload_n C0 dL_law_1921 rfl (lv_at hl 0 rfl) ?_
          refine lv_iload hx hb dL_law_1922 (lv_at hl 4 rfl) ?_
          refine lv_iconst (v := 2) hx hb dL_law_1924 (by decide) ?_
          refine lv_iadd hx hb dL_law_1925 ?_
          obtain ⟨hg, h⟩ := h
          refine va_sld hx hb hX hbl hbA hH.2 hg dL_law_1926 ?_
          refine lv_topi (fun i_295 ei_295 => ?_)
          have h := h i_295 ei_295
          refine hx_aload_n C0 dL_law_1927 rfl (lv_at hl 0 rfl) ?_
          refine lv_iload hx hb dL_law_1928 (lv_at hl 4 rfl) ?_
          refine lv_iconst (v := 3) hx hb dL_law_1930 (by decide) ?_
          refine lv_iadd hx hb dL_law_1931 ?_
          obtain ⟨hg, h⟩ := h
          refine va_sld hx hb hX hbl hbA hH.2 hg dL_law_1932 ?_
          refine lv_topi (fun i_296 ei_296 => ?_)
          have h := h i_296 ei_296
          refine lv_if_eq hx hb dL_law_1933 (tgt := 1940) (by decide) (fun c_297 => ?_) (fun c_297 => ?_)
          · have h := h.1 c_297
            refine lv_iconst (v := 0) hx hb dL_law_1940 (by decide) ?_
            refine W.widen (k := cl23 + 0) (n := sl23 + 0) (by omega) (by omega) ?_
            exact b1941 _ _ _ _ _ _ _ _ _ h _ _ _ hH (lv_sub hl [0, 1, 2, 3, 4] rfl)
          · have h := h.2 c_297
            refine lv_iconst (v := 1) hx hb dL_law_1936 (by decide) ?_
            refine lv_goto hx hb dL_law_1937 (tgt := 1941) (by decide) ?_
            refine W.widen (k := cl23 + 0) (n := sl23 + 0) (by omega) (by omega) ?_
            exact b1941 _ _ _ _ _ _ _ _ _ h _ _ _ hH (lv_sub hl [0, 1, 2, 3, 4] rfl)
        have h := h.2 c_298
        have nc_298 : ¬ (i_3).toInt = 26 := hx_ni c_298 rfl
        by_cases c_308 : i_3 = 27
        · have h := h.1 c_308
          have zc_308 : (i_3).toInt = 27 := by rw [c_308]; rfl
          refine lv_tableIn hx hb dL_law_39 (by rw [zc_308]; decide) (by rw [zc_308]; decide) (by rw [zc_308]; rfl) (tgt := 2010) (by decide) ?_
          refine hx_aload_n C0 dL_law_2010 rfl (lv_at hl 1 rfl) ?_
          refine hx_aload_n C0 dL_law_2011 rfl (lv_at hl 0 rfl) ?_
          refine lv_iload hx hb dL_law_2012 (lv_at hl 4 rfl) ?_
          refine lv_iconst (v := 1) hx hb dL_law_2014 (by decide) ?_
          refine lv_iadd hx hb dL_law_2015 ?_
          obtain ⟨hg, h⟩ := h
          refine va_sld hx hb hX hbl hbA hH.2 hg dL_law_2016 ?_
          refine lv_topi (fun i_299 ei_299 => ?_)
          have h := h i_299 ei_299
          refine hx_aload_n C0 dL_law_2017 rfl (lv_at hl 3 rfl) ?_
          refine hx_SWi C0 hU hH (As := [va_rf (some a1), .int i_299, va_rf (some a3)]) (wk_X0_outs l hst h) (vx_cwSW 3 hts (lw_SW q1004 q1005 q59 q1006) rfl rfl rfl (by decide +kernel) ⟨Nat.le_of_ble_eq_true rfl, Nat.le_of_ble_eq_true rfl⟩) rfl hl.1 rfl (Nat.le_of_ble_eq_true rfl) dL_law_2018 ⟨(show _ ≤ 1200144 by omega), (show _ ≤ 5497210 by omega)⟩ (fun i_300 w H locs hH h => ?_)
          refine lv_istore hx hb dL_law_2021 hl (by decide) (lv' := [(5, .int i_300), (0, va_rf (some b)), (1, va_rf (some a1)), (2, va_rf (some a2)), (3, va_rf (some a3)), (4, .int x4)]) rfl (fun ls hl => ?_)
          refine hx_aload_n C0 dL_law_2023 rfl (lv_at hl 3 rfl) ?_
          refine hx_aload_n C0 dL_law_2024 rfl (lv_at hl 1 rfl) ?_
          refine lv_iload hx hb dL_law_2025 (lv_at hl 5 rfl) ?_
          refine lv_iconst (v := 1) hx hb dL_law_2027 (by decide) ?_
          refine lv_iadd hx hb dL_law_2028 ?_
          obtain ⟨hg, h⟩ := h
          refine va_sld hx hb hX hbl hbA hH.2 hg dL_law_2029 ?_
          refine lv_topi (fun i_301 ei_301 => ?_)
          have h := h i_301 ei_301
          obtain ⟨ho, h⟩ := h
          refine hx_Vi C0 hU hH (As := [.int i_301]) (wk_X4_outs l h) (cwV 1 hts (lw_V q1430 q1431 q1432 q71 q1433) rfl rfl rfl (by decide +kernel) ⟨Nat.le_of_ble_eq_true rfl, Nat.le_of_ble_eq_true rfl⟩) (hx_recv hU hH (ci := 3) rfl ho) rfl hl.1 rfl (Nat.le_of_ble_eq_true rfl) dL_law_2030 ⟨(show _ ≤ 1200144 by omega), (show _ ≤ 5497210 by omega)⟩ (fun i_302 w H locs hH h => ?_)
          refine lv_istore hx hb dL_law_2033 hl (by decide) (lv' := [(6, .int i_302), (5, .int i_300), (0, va_rf (some b)), (1, va_rf (some a1)), (2, va_rf (some a2)), (3, va_rf (some a3)), (4, .int x4)]) rfl (fun ls hl => ?_)
          refine hx_aload_n C0 dL_law_2035 rfl (lv_at hl 4 rfl) ?_
          obtain ⟨ho, h⟩ := h
          refine hx_Vi C0 hU hH (As := []) (wk_X4_thrown l h) (cwV 0 hts (lw_V q1153 q1154 q1155 q71 q1156) rfl rfl rfl (by decide +kernel) ⟨Nat.le_of_ble_eq_true rfl, Nat.le_of_ble_eq_true rfl⟩) (hx_recv hU hH (ci := 3) rfl ho) rfl hl.1 rfl (Nat.le_of_ble_eq_true rfl) dL_law_2036 ⟨(show _ ≤ 1200144 by omega), (show _ ≤ 5497210 by omega)⟩ (fun i_303 w H locs hH h => ?_)
          refine lv_iload hx hb dL_law_2039 (lv_at hl 1 rfl) ?_
          refine lv_icmp_eq hx hb dL_law_2041 (tgt := 2046) (by decide) (fun c_304 => ?_) (fun c_304 => ?_)
          · have h := h.1 c_304
            refine lv_iload hx hb dL_law_2046 (lv_at hl 1 rfl) ?_
            refine lv_if_ne hx hb dL_law_2048 (tgt := 2063) (by decide) (fun c_305 => ?_) (fun c_305 => ?_)
            · have h := h.2 c_305
              refine W.widen (k := cl23 + 1) (n := sl23 + 6) (by omega) (by omega) ?_
              exact b2063 _ _ _ _ _ h _ _ _ hH (lv_sub hl [2, 3, 4, 5, 6] rfl)
            · have h := h.1 c_305
              refine hx_aload_n C0 dL_law_2051 rfl (lv_at hl 5 rfl) ?_
              refine lv_iconst (v := 0) hx hb dL_law_2052 (by decide) ?_
              refine hx_aJ C0 hU hH h dL_law_2053 (fun l_306 h => ?_)
              refine lv_iload hx hb dL_law_2054 (lv_at hl 0 rfl) ?_
              refine lv_i2l hx hb dL_law_2056 rfl ?_
              refine W.lcmp hx hb dL_law_2057 ?_
              refine lv_if_eq hx hb dL_law_2058 (tgt := 2063) (by decide) (fun c_307 => ?_) (fun c_307 => ?_)
              · have h := h.1 c_307
                refine W.widen (k := cl23 + 1) (n := sl23 + 6) (by omega) (by omega) ?_
                exact b2063 _ _ _ _ _ h _ _ _ hH (lv_sub hl [2, 3, 4, 5, 6] rfl)
              · have h := h.2 c_307
                refine lv_iconst (v := 0) hx hb dL_law_2061 (by decide) ?_
                exact h.elim
          · have h := h.2 c_304
            refine lv_iconst (v := 0) hx hb dL_law_2044 (by decide) ?_
            exact h.elim
        have h := h.2 c_308
        have nc_308 : ¬ (i_3).toInt = 27 := hx_ni c_308 rfl
        by_cases c_322 : i_3 = 28
        · have h := h.1 c_322
          have zc_322 : (i_3).toInt = 28 := by rw [c_322]; rfl
          refine lv_tableIn hx hb dL_law_39 (by rw [zc_322]; decide) (by rw [zc_322]; decide) (by rw [zc_322]; rfl) (tgt := 2066) (by decide) ?_
          refine hx_aload_n C0 dL_law_2066 rfl (lv_at hl 1 rfl) ?_
          refine hx_aload_n C0 dL_law_2067 rfl (lv_at hl 0 rfl) ?_
          refine lv_iload hx hb dL_law_2068 (lv_at hl 4 rfl) ?_
          refine lv_iconst (v := 1) hx hb dL_law_2070 (by decide) ?_
          refine lv_iadd hx hb dL_law_2071 ?_
          obtain ⟨hg, h⟩ := h
          refine va_sld hx hb hX hbl hbA hH.2 hg dL_law_2072 ?_
          refine lv_topi (fun i_309 ei_309 => ?_)
          have h := h i_309 ei_309
          refine hx_aload_n C0 dL_law_2073 rfl (lv_at hl 0 rfl) ?_
          refine lv_iload hx hb dL_law_2074 (lv_at hl 4 rfl) ?_
          refine lv_iconst (v := 2) hx hb dL_law_2076 (by decide) ?_
          refine lv_iadd hx hb dL_law_2077 ?_
          obtain ⟨hg, h⟩ := h
          refine va_sld hx hb hX hbl hbA hH.2 hg dL_law_2078 ?_
          refine lv_topi (fun i_310 ei_310 => ?_)
          have h := h i_310 ei_310
          refine hx_aload_n C0 dL_law_2079 rfl (lv_at hl 0 rfl) ?_
          refine lv_iload hx hb dL_law_2080 (lv_at hl 4 rfl) ?_
          refine lv_iconst (v := 3) hx hb dL_law_2082 (by decide) ?_
          refine lv_iadd hx hb dL_law_2083 ?_
          obtain ⟨hg, h⟩ := h
          refine va_sld hx hb hX hbl hbA hH.2 hg dL_law_2084 ?_
          refine lv_topi (fun i_311 ei_311 => ?_)
          have h := h i_311 ei_311
          refine hx_aload_n C0 dL_law_2085 rfl (lv_at hl 3 rfl) ?_
          refine hx_SWi C0 hU hH (As := [va_rf (some a1), .int i_309, .int i_310, .int i_311, va_rf (some a3)]) (wk_X0_out l hst h) (vx_cwSW 5 hts (lw_SW q1011 q1012 q59 q1013) rfl rfl rfl (by decide +kernel) ⟨Nat.le_of_ble_eq_true rfl, Nat.le_of_ble_eq_true rfl⟩) rfl hl.1 rfl (Nat.le_of_ble_eq_true rfl) dL_law_2086 ⟨(show _ ≤ 1200144 by omega), (show _ ≤ 5497210 by omega)⟩ (fun i_312 w H locs hH h => ?_)
          refine lv_istore hx hb dL_law_2089 hl (by decide) (lv' := [(5, .int i_312), (0, va_rf (some b)), (1, va_rf (some a1)), (2, va_rf (some a2)), (3, va_rf (some a3)), (4, .int x4)]) rfl (fun ls hl => ?_)
          refine hx_aload_n C0 dL_law_2091 rfl (lv_at hl 3 rfl) ?_
          refine hx_aload_n C0 dL_law_2092 rfl (lv_at hl 1 rfl) ?_
          refine lv_iload hx hb dL_law_2093 (lv_at hl 5 rfl) ?_
          refine lv_iconst (v := 1) hx hb dL_law_2095 (by decide) ?_
          refine lv_iadd hx hb dL_law_2096 ?_
          obtain ⟨hg, h⟩ := h
          refine va_sld hx hb hX hbl hbA hH.2 hg dL_law_2097 ?_
          refine lv_topi (fun i_313 ei_313 => ?_)
          have h := h i_313 ei_313
          refine hx_aload_n C0 dL_law_2098 rfl (lv_at hl 1 rfl) ?_
          refine lv_iload hx hb dL_law_2099 (lv_at hl 5 rfl) ?_
          refine lv_iconst (v := 2) hx hb dL_law_2101 (by decide) ?_
          refine lv_iadd hx hb dL_law_2102 ?_
          obtain ⟨hg, h⟩ := h
          refine va_sld hx hb hX hbl hbA hH.2 hg dL_law_2103 ?_
          refine lv_topi (fun i_314 ei_314 => ?_)
          have h := h i_314 ei_314
          refine hx_aload_n C0 dL_law_2104 rfl (lv_at hl 1 rfl) ?_
          refine lv_iload hx hb dL_law_2105 (lv_at hl 5 rfl) ?_
          refine lv_iconst (v := 3) hx hb dL_law_2107 (by decide) ?_
          refine lv_iadd hx hb dL_law_2108 ?_
          obtain ⟨hg, h⟩ := h
          refine va_sld hx hb hX hbl hbA hH.2 hg dL_law_2109 ?_
          refine lv_topi (fun i_315 ei_315 => ?_)
          have h := h i_315 ei_315
          obtain ⟨ho, h⟩ := h
          refine hx_Vi C0 hU hH (As := [.int i_313, .int i_314, .int i_315]) (wk_X4_out l h) (cwV 3 hts (lw_V q1434 q1435 q1436 q71 q1437) rfl rfl rfl (by decide +kernel) ⟨Nat.le_of_ble_eq_true rfl, Nat.le_of_ble_eq_true rfl⟩) (hx_recv hU hH (ci := 3) rfl ho) rfl hl.1 rfl (Nat.le_of_ble_eq_true rfl) dL_law_2110 ⟨(show _ ≤ 1200144 by omega), (show _ ≤ 5497210 by omega)⟩ (fun i_316 w H locs hH h => ?_)
          refine lv_istore hx hb dL_law_2113 hl (by decide) (lv' := [(6, .int i_316), (5, .int i_312), (0, va_rf (some b)), (1, va_rf (some a1)), (2, va_rf (some a2)), (3, va_rf (some a3)), (4, .int x4)]) rfl (fun ls hl => ?_)
          refine hx_aload_n C0 dL_law_2115 rfl (lv_at hl 4 rfl) ?_
          obtain ⟨ho, h⟩ := h
          refine hx_Vi C0 hU hH (As := []) (wk_X4_thrown l h) (cwV 0 hts (lw_V q1153 q1154 q1155 q71 q1156) rfl rfl rfl (by decide +kernel) ⟨Nat.le_of_ble_eq_true rfl, Nat.le_of_ble_eq_true rfl⟩) (hx_recv hU hH (ci := 3) rfl ho) rfl hl.1 rfl (Nat.le_of_ble_eq_true rfl) dL_law_2116 ⟨(show _ ≤ 1200144 by omega), (show _ ≤ 5497210 by omega)⟩ (fun i_317 w H locs hH h => ?_)
          refine lv_iload hx hb dL_law_2119 (lv_at hl 1 rfl) ?_
          refine lv_icmp_eq hx hb dL_law_2121 (tgt := 2126) (by decide) (fun c_318 => ?_) (fun c_318 => ?_)
          · have h := h.1 c_318
            refine lv_iload hx hb dL_law_2126 (lv_at hl 1 rfl) ?_
            refine lv_if_ne hx hb dL_law_2128 (tgt := 2143) (by decide) (fun c_319 => ?_) (fun c_319 => ?_)
            · have h := h.2 c_319
              refine W.widen (k := cl23 + 2) (n := sl23 + 12) (by omega) (by omega) ?_
              exact b2143 _ _ _ _ _ h _ _ _ hH (lv_sub hl [2, 3, 4, 5, 6] rfl)
            · have h := h.1 c_319
              refine hx_aload_n C0 dL_law_2131 rfl (lv_at hl 5 rfl) ?_
              refine lv_iconst (v := 0) hx hb dL_law_2132 (by decide) ?_
              refine hx_aJ C0 hU hH h dL_law_2133 (fun l_320 h => ?_)
              refine lv_iload hx hb dL_law_2134 (lv_at hl 0 rfl) ?_
              refine lv_i2l hx hb dL_law_2136 rfl ?_
              refine W.lcmp hx hb dL_law_2137 ?_
              refine lv_if_eq hx hb dL_law_2138 (tgt := 2143) (by decide) (fun c_321 => ?_) (fun c_321 => ?_)
              · have h := h.1 c_321
                refine W.widen (k := cl23 + 2) (n := sl23 + 12) (by omega) (by omega) ?_
                exact b2143 _ _ _ _ _ h _ _ _ hH (lv_sub hl [2, 3, 4, 5, 6] rfl)
              · have h := h.2 c_321
                refine lv_iconst (v := 0) hx hb dL_law_2141 (by decide) ?_
                exact h.elim
          · have h := h.2 c_318
            refine lv_iconst (v := 0) hx hb dL_law_2124 (by decide) ?_
            exact h.elim
        have h := h.2 c_322
        have nc_322 : ¬ (i_3).toInt = 28 := hx_ni c_322 rfl
        by_cases c_332 : i_3 = 29
        · have h := h.1 c_332
          have zc_332 : (i_3).toInt = 29 := by rw [c_332]; rfl
          refine lv_tableIn hx hb dL_law_39 (by rw [zc_332]; decide) (by rw [zc_332]; decide) (by rw [zc_332]; rfl) (tgt := 2146) (by decide) ?_
          refine hx_aload_n C0 dL_law_2146 rfl (lv_at hl 1 rfl) ?_
          refine hx_aload_n C0 dL_law_2147 rfl (lv_at hl 0 rfl) ?_
          refine lv_iload hx hb dL_law_2148 (lv_at hl 4 rfl) ?_
          refine lv_iconst (v := 1) hx hb dL_law_2150 (by decide) ?_
          refine lv_iadd hx hb dL_law_2151 ?_
          obtain ⟨hg, h⟩ := h
          refine va_sld hx hb hX hbl hbA hH.2 hg dL_law_2152 ?_
          refine lv_topi (fun i_323 ei_323 => ?_)
          have h := h i_323 ei_323
          refine hx_aload_n C0 dL_law_2153 rfl (lv_at hl 3 rfl) ?_
          refine hx_SWi C0 hU hH (As := [va_rf (some a1), .int i_323, va_rf (some a3)]) (wk_X0_drops l hst h) (vx_cwSW 3 hts (lw_SW q1019 q1020 q59 q1021) rfl rfl rfl (by decide +kernel) ⟨Nat.le_of_ble_eq_true rfl, Nat.le_of_ble_eq_true rfl⟩) rfl hl.1 rfl (Nat.le_of_ble_eq_true rfl) dL_law_2154 ⟨(show _ ≤ 1200144 by omega), (show _ ≤ 5497210 by omega)⟩ (fun i_324 w H locs hH h => ?_)
          refine lv_istore hx hb dL_law_2157 hl (by decide) (lv' := [(5, .int i_324), (0, va_rf (some b)), (1, va_rf (some a1)), (2, va_rf (some a2)), (3, va_rf (some a3)), (4, .int x4)]) rfl (fun ls hl => ?_)
          refine hx_aload_n C0 dL_law_2159 rfl (lv_at hl 3 rfl) ?_
          refine hx_aload_n C0 dL_law_2160 rfl (lv_at hl 1 rfl) ?_
          refine lv_iload hx hb dL_law_2161 (lv_at hl 5 rfl) ?_
          refine lv_iconst (v := 1) hx hb dL_law_2163 (by decide) ?_
          refine lv_iadd hx hb dL_law_2164 ?_
          obtain ⟨hg, h⟩ := h
          refine va_sld hx hb hX hbl hbA hH.2 hg dL_law_2165 ?_
          refine lv_topi (fun i_325 ei_325 => ?_)
          have h := h i_325 ei_325
          obtain ⟨ho, h⟩ := h
          refine hx_Vi C0 hU hH (As := [.int i_325]) (wk_X4_drops l h) (cwV 1 hts (lw_V q1439 q1440 q1441 q71 q1442) rfl rfl rfl (by decide +kernel) ⟨Nat.le_of_ble_eq_true rfl, Nat.le_of_ble_eq_true rfl⟩) (hx_recv hU hH (ci := 3) rfl ho) rfl hl.1 rfl (Nat.le_of_ble_eq_true rfl) dL_law_2166 ⟨(show _ ≤ 1200144 by omega), (show _ ≤ 5497210 by omega)⟩ (fun i_326 w H locs hH h => ?_)
          refine lv_istore hx hb dL_law_2169 hl (by decide) (lv' := [(6, .int i_326), (5, .int i_324), (0, va_rf (some b)), (1, va_rf (some a1)), (2, va_rf (some a2)), (3, va_rf (some a3)), (4, .int x4)]) rfl (fun ls hl => ?_)
          refine hx_aload_n C0 dL_law_2171 rfl (lv_at hl 4 rfl) ?_
          obtain ⟨ho, h⟩ := h
          refine hx_Vi C0 hU hH (As := []) (wk_X4_thrown l h) (cwV 0 hts (lw_V q1153 q1154 q1155 q71 q1156) rfl rfl rfl (by decide +kernel) ⟨Nat.le_of_ble_eq_true rfl, Nat.le_of_ble_eq_true rfl⟩) (hx_recv hU hH (ci := 3) rfl ho) rfl hl.1 rfl (Nat.le_of_ble_eq_true rfl) dL_law_2172 ⟨(show _ ≤ 1200144 by omega), (show _ ≤ 5497210 by omega)⟩ (fun i_327 w H locs hH h => ?_)
          refine lv_iload hx hb dL_law_2175 (lv_at hl 1 rfl) ?_
          refine lv_icmp_eq hx hb dL_law_2177 (tgt := 2182) (by decide) (fun c_328 => ?_) (fun c_328 => ?_)
          · have h := h.1 c_328
            refine lv_iload hx hb dL_law_2182 (lv_at hl 1 rfl) ?_
            refine lv_if_ne hx hb dL_law_2184 (tgt := 2199) (by decide) (fun c_329 => ?_) (fun c_329 => ?_)
            · have h := h.2 c_329
              refine W.widen (k := cl23 + 1) (n := sl23 + 6) (by omega) (by omega) ?_
              exact b2199 _ _ _ _ _ h _ _ _ hH (lv_sub hl [2, 3, 4, 5, 6] rfl)
            · have h := h.1 c_329
              refine hx_aload_n C0 dL_law_2187 rfl (lv_at hl 5 rfl) ?_
              refine lv_iconst (v := 0) hx hb dL_law_2188 (by decide) ?_
              refine hx_aJ C0 hU hH h dL_law_2189 (fun l_330 h => ?_)
              refine lv_iload hx hb dL_law_2190 (lv_at hl 0 rfl) ?_
              refine lv_i2l hx hb dL_law_2192 rfl ?_
              refine W.lcmp hx hb dL_law_2193 ?_
              refine lv_if_eq hx hb dL_law_2194 (tgt := 2199) (by decide) (fun c_331 => ?_) (fun c_331 => ?_)
              · have h := h.1 c_331
                refine W.widen (k := cl23 + 1) (n := sl23 + 6) (by omega) (by omega) ?_
                exact b2199 _ _ _ _ _ h _ _ _ hH (lv_sub hl [2, 3, 4, 5, 6] rfl)
              · have h := h.2 c_331
                refine lv_iconst (v := 0) hx hb dL_law_2197 (by decide) ?_
                exact h.elim
          · have h := h.2 c_328
            refine lv_iconst (v := 0) hx hb dL_law_2180 (by decide) ?_
            exact h.elim
        have h := h.2 c_332
        have nc_332 : ¬ (i_3).toInt = 29 := hx_ni c_332 rfl
        by_cases c_342 : i_3 = 30
        · have h := h.1 c_342
          have zc_342 : (i_3).toInt = 30 := by rw [c_342]; rfl
          refine lv_tableIn hx hb dL_law_39 (by rw [zc_342]; decide) (by rw [zc_342]; decide) (by rw [zc_342]; rfl) (tgt := 2202) (by decide) ?_
          refine hx_aload_n C0 dL_law_2202 rfl (lv_at hl 1 rfl) ?_
          refine hx_aload_n C0 dL_law_2203 rfl (lv_at hl 0 rfl) ?_
          refine lv_iload hx hb dL_law_2204 (lv_at hl 4 rfl) ?_
          refine lv_iconst (v := 1) hx hb dL_law_2206 (by decide) ?_
          refine lv_iadd hx hb dL_law_2207 ?_
          obtain ⟨hg, h⟩ := h
          refine va_sld hx hb hX hbl hbA hH.2 hg dL_law_2208 ?_
          refine lv_topi (fun i_333 ei_333 => ?_)
          have h := h i_333 ei_333
          refine hx_aload_n C0 dL_law_2209 rfl (lv_at hl 3 rfl) ?_
          refine hx_SWi C0 hU hH (As := [va_rf (some a1), .int i_333, va_rf (some a3)]) (wk_X0_publicOf l hst h) (vx_cwSW 3 hts (lw_SW q1027 q1028 q59 q1029) rfl rfl rfl (by decide +kernel) ⟨Nat.le_of_ble_eq_true rfl, Nat.le_of_ble_eq_true rfl⟩) rfl hl.1 rfl (Nat.le_of_ble_eq_true rfl) dL_law_2210 ⟨(show _ ≤ 1200144 by omega), (show _ ≤ 5497210 by omega)⟩ (fun i_334 w H locs hH h => ?_)
          refine lv_istore hx hb dL_law_2213 hl (by decide) (lv' := [(5, .int i_334), (0, va_rf (some b)), (1, va_rf (some a1)), (2, va_rf (some a2)), (3, va_rf (some a3)), (4, .int x4)]) rfl (fun ls hl => ?_)
          refine hx_aload_n C0 dL_law_2215 rfl (lv_at hl 3 rfl) ?_
          refine hx_aload_n C0 dL_law_2216 rfl (lv_at hl 1 rfl) ?_
          refine lv_iload hx hb dL_law_2217 (lv_at hl 5 rfl) ?_
          refine lv_iconst (v := 1) hx hb dL_law_2219 (by decide) ?_
          refine lv_iadd hx hb dL_law_2220 ?_
          obtain ⟨hg, h⟩ := h
          refine va_sld hx hb hX hbl hbA hH.2 hg dL_law_2221 ?_
          refine lv_topi (fun i_335 ei_335 => ?_)
          have h := h i_335 ei_335
          obtain ⟨ho, h⟩ := h
          refine hx_Vi C0 hU hH (As := [.int i_335]) (wk_X4_publicOf l h) (cwV 1 hts (lw_V q1444 q1445 q1446 q71 q1447) rfl rfl rfl (by decide +kernel) ⟨Nat.le_of_ble_eq_true rfl, Nat.le_of_ble_eq_true rfl⟩) (hx_recv hU hH (ci := 3) rfl ho) rfl hl.1 rfl (Nat.le_of_ble_eq_true rfl) dL_law_2222 ⟨(show _ ≤ 1200144 by omega), (show _ ≤ 5497210 by omega)⟩ (fun i_336 w H locs hH h => ?_)
          refine lv_istore hx hb dL_law_2225 hl (by decide) (lv' := [(6, .int i_336), (5, .int i_334), (0, va_rf (some b)), (1, va_rf (some a1)), (2, va_rf (some a2)), (3, va_rf (some a3)), (4, .int x4)]) rfl (fun ls hl => ?_)
          refine hx_aload_n C0 dL_law_2227 rfl (lv_at hl 4 rfl) ?_
          obtain ⟨ho, h⟩ := h
          refine hx_Vi C0 hU hH (As := []) (wk_X4_thrown l h) (cwV 0 hts (lw_V q1153 q1154 q1155 q71 q1156) rfl rfl rfl (by decide +kernel) ⟨Nat.le_of_ble_eq_true rfl, Nat.le_of_ble_eq_true rfl⟩) (hx_recv hU hH (ci := 3) rfl ho) rfl hl.1 rfl (Nat.le_of_ble_eq_true rfl) dL_law_2228 ⟨(show _ ≤ 1200144 by omega), (show _ ≤ 5497210 by omega)⟩ (fun i_337 w H locs hH h => ?_)
          refine lv_iload hx hb dL_law_2231 (lv_at hl 1 rfl) ?_
          refine lv_icmp_eq hx hb dL_law_2233 (tgt := 2238) (by decide) (fun c_338 => ?_) (fun c_338 => ?_)
          · have h := h.1 c_338
            refine lv_iload hx hb dL_law_2238 (lv_at hl 1 rfl) ?_
            refine lv_if_ne hx hb dL_law_2240 (tgt := 2255) (by decide) (fun c_339 => ?_) (fun c_339 => ?_)
            · have h := h.2 c_339
              refine W.widen (k := cl23 + 1) (n := sl23 + 6) (by omega) (by omega) ?_
              exact b2255 _ _ _ _ _ h _ _ _ hH (lv_sub hl [2, 3, 4, 5, 6] rfl)
            · have h := h.1 c_339
              refine hx_aload_n C0 dL_law_2243 rfl (lv_at hl 5 rfl) ?_
              refine lv_iconst (v := 0) hx hb dL_law_2244 (by decide) ?_
              refine hx_aJ C0 hU hH h dL_law_2245 (fun l_340 h => ?_)
              refine lv_iload hx hb dL_law_2246 (lv_at hl 0 rfl) ?_
              refine lv_i2l hx hb dL_law_2248 rfl ?_
              refine W.lcmp hx hb dL_law_2249 ?_
              refine lv_if_eq hx hb dL_law_2250 (tgt := 2255) (by decide) (fun c_341 => ?_) (fun c_341 => ?_)
              · have h := h.1 c_341
                refine W.widen (k := cl23 + 1) (n := sl23 + 6) (by omega) (by omega) ?_
                exact b2255 _ _ _ _ _ h _ _ _ hH (lv_sub hl [2, 3, 4, 5, 6] rfl)
              · have h := h.2 c_341
                refine lv_iconst (v := 0) hx hb dL_law_2253 (by decide) ?_
                exact h.elim
          · have h := h.2 c_338
            refine lv_iconst (v := 0) hx hb dL_law_2236 (by decide) ?_
            exact h.elim
        have h := h.2 c_342
        have nc_342 : ¬ (i_3).toInt = 30 := hx_ni c_342 rfl
        by_cases c_354 : i_3 = 31
        · have h := h.1 c_354
          have zc_354 : (i_3).toInt = 31 := by rw [c_354]; rfl
          refine lv_tableIn hx hb dL_law_39 (by rw [zc_354]; decide) (by rw [zc_354]; decide) (by rw [zc_354]; rfl) (tgt := 2258) (by decide) ?_
          refine hx_aload_n C0 dL_law_2258 rfl (lv_at hl 1 rfl) ?_
          refine hx_aload_n C0 dL_law_2259 rfl (lv_at hl 0 rfl) ?_
          refine lv_iload hx hb dL_law_2260 (lv_at hl 4 rfl) ?_
          refine lv_iconst (v := 1) hx hb dL_law_2262 (by decide) ?_
          refine lv_iadd hx hb dL_law_2263 ?_
          obtain ⟨hg, h⟩ := h
          refine va_sld hx hb hX hbl hbA hH.2 hg dL_law_2264 ?_
          refine lv_topi (fun i_343 ei_343 => ?_)
          have h := h i_343 ei_343
          refine hx_aload_n C0 dL_law_2265 rfl (lv_at hl 0 rfl) ?_
          refine lv_iload hx hb dL_law_2266 (lv_at hl 4 rfl) ?_
          refine lv_iconst (v := 2) hx hb dL_law_2268 (by decide) ?_
          refine lv_iadd hx hb dL_law_2269 ?_
          obtain ⟨hg, h⟩ := h
          refine va_sld hx hb hX hbl hbA hH.2 hg dL_law_2270 ?_
          refine lv_topi (fun i_344 ei_344 => ?_)
          have h := h i_344 ei_344
          refine hx_aload_n C0 dL_law_2271 rfl (lv_at hl 3 rfl) ?_
          refine hx_SWi C0 hU hH (As := [va_rf (some a1), .int i_343, .int i_344, va_rf (some a3)]) (wk_X0_shared l hst h) (vx_cwSW 4 hts (lw_SW q1036 q1037 q59 q1038) rfl rfl rfl (by decide +kernel) ⟨Nat.le_of_ble_eq_true rfl, Nat.le_of_ble_eq_true rfl⟩) rfl hl.1 rfl (Nat.le_of_ble_eq_true rfl) dL_law_2272 ⟨(show _ ≤ 1200144 by omega), (show _ ≤ 5497210 by omega)⟩ (fun i_345 w H locs hH h => ?_)
          refine lv_istore hx hb dL_law_2275 hl (by decide) (lv' := [(5, .int i_345), (0, va_rf (some b)), (1, va_rf (some a1)), (2, va_rf (some a2)), (3, va_rf (some a3)), (4, .int x4)]) rfl (fun ls hl => ?_)
          refine hx_aload_n C0 dL_law_2277 rfl (lv_at hl 3 rfl) ?_
          refine hx_aload_n C0 dL_law_2278 rfl (lv_at hl 1 rfl) ?_
          refine lv_iload hx hb dL_law_2279 (lv_at hl 5 rfl) ?_
          refine lv_iconst (v := 1) hx hb dL_law_2281 (by decide) ?_
          refine lv_iadd hx hb dL_law_2282 ?_
          obtain ⟨hg, h⟩ := h
          refine va_sld hx hb hX hbl hbA hH.2 hg dL_law_2283 ?_
          refine lv_topi (fun i_346 ei_346 => ?_)
          have h := h i_346 ei_346
          refine hx_aload_n C0 dL_law_2284 rfl (lv_at hl 1 rfl) ?_
          refine lv_iload hx hb dL_law_2285 (lv_at hl 5 rfl) ?_
          refine lv_iconst (v := 2) hx hb dL_law_2287 (by decide) ?_
          refine lv_iadd hx hb dL_law_2288 ?_
          obtain ⟨hg, h⟩ := h
          refine va_sld hx hb hX hbl hbA hH.2 hg dL_law_2289 ?_
          refine lv_topi (fun i_347 ei_347 => ?_)
          have h := h i_347 ei_347
          obtain ⟨ho, h⟩ := h
          refine hx_Vi C0 hU hH (As := [.int i_346, .int i_347]) (wk_X4_shared l h) (cwV 2 hts (lw_V q1449 q1450 q1451 q71 q1452) rfl rfl rfl (by decide +kernel) ⟨Nat.le_of_ble_eq_true rfl, Nat.le_of_ble_eq_true rfl⟩) (hx_recv hU hH (ci := 3) rfl ho) rfl hl.1 rfl (Nat.le_of_ble_eq_true rfl) dL_law_2290 ⟨(show _ ≤ 1200144 by omega), (show _ ≤ 5497210 by omega)⟩ (fun i_348 w H locs hH h => ?_)
          refine lv_istore hx hb dL_law_2293 hl (by decide) (lv' := [(6, .int i_348), (5, .int i_345), (0, va_rf (some b)), (1, va_rf (some a1)), (2, va_rf (some a2)), (3, va_rf (some a3)), (4, .int x4)]) rfl (fun ls hl => ?_)
          refine hx_aload_n C0 dL_law_2295 rfl (lv_at hl 4 rfl) ?_
          obtain ⟨ho, h⟩ := h
          refine hx_Vi C0 hU hH (As := []) (wk_X4_thrown l h) (cwV 0 hts (lw_V q1153 q1154 q1155 q71 q1156) rfl rfl rfl (by decide +kernel) ⟨Nat.le_of_ble_eq_true rfl, Nat.le_of_ble_eq_true rfl⟩) (hx_recv hU hH (ci := 3) rfl ho) rfl hl.1 rfl (Nat.le_of_ble_eq_true rfl) dL_law_2296 ⟨(show _ ≤ 1200144 by omega), (show _ ≤ 5497210 by omega)⟩ (fun i_349 w H locs hH h => ?_)
          refine lv_iload hx hb dL_law_2299 (lv_at hl 1 rfl) ?_
          refine lv_icmp_eq hx hb dL_law_2301 (tgt := 2306) (by decide) (fun c_350 => ?_) (fun c_350 => ?_)
          · have h := h.1 c_350
            refine lv_iload hx hb dL_law_2306 (lv_at hl 1 rfl) ?_
            refine lv_if_ne hx hb dL_law_2308 (tgt := 2323) (by decide) (fun c_351 => ?_) (fun c_351 => ?_)
            · have h := h.2 c_351
              refine W.widen (k := cl23 + 1) (n := sl23 + 6) (by omega) (by omega) ?_
              exact b2323 _ _ _ _ _ h _ _ _ hH (lv_sub hl [2, 3, 4, 5, 6] rfl)
            · have h := h.1 c_351
              refine hx_aload_n C0 dL_law_2311 rfl (lv_at hl 5 rfl) ?_
              refine lv_iconst (v := 0) hx hb dL_law_2312 (by decide) ?_
              refine hx_aJ C0 hU hH h dL_law_2313 (fun l_352 h => ?_)
              refine lv_iload hx hb dL_law_2314 (lv_at hl 0 rfl) ?_
              refine lv_i2l hx hb dL_law_2316 rfl ?_
              refine W.lcmp hx hb dL_law_2317 ?_
              refine lv_if_eq hx hb dL_law_2318 (tgt := 2323) (by decide) (fun c_353 => ?_) (fun c_353 => ?_)
              · have h := h.1 c_353
                refine W.widen (k := cl23 + 1) (n := sl23 + 6) (by omega) (by omega) ?_
                exact b2323 _ _ _ _ _ h _ _ _ hH (lv_sub hl [2, 3, 4, 5, 6] rfl)
              · have h := h.2 c_353
                refine lv_iconst (v := 0) hx hb dL_law_2321 (by decide) ?_
                exact h.elim
          · have h := h.2 c_350
            refine lv_iconst (v := 0) hx hb dL_law_2304 (by decide) ?_
            exact h.elim
        have h := h.2 c_354
        have nc_354 : ¬ (i_3).toInt = 31 := hx_ni c_354 rfl
        by_cases c_370 : i_3 = 32
        · have h := h.1 c_370
          have zc_370 : (i_3).toInt = 32 := by rw [c_370]; rfl
          refine lv_tableIn hx hb dL_law_39 (by rw [zc_370]; decide) (by rw [zc_370]; decide) (by rw [zc_370]; rfl) (tgt := 2326) (by decide) ?_
          refine hx_aload_n C0 dL_law_2326 rfl (lv_at hl 1 rfl) ?_
          refine hx_aload_n C0 dL_law_2327 rfl (lv_at hl 0 rfl) ?_
          refine lv_iload hx hb dL_law_2328 (lv_at hl 4 rfl) ?_
          refine lv_iconst (v := 1) hx hb dL_law_2330 (by decide) ?_
          refine lv_iadd hx hb dL_law_2331 ?_
          obtain ⟨hg, h⟩ := h
          refine va_sld hx hb hX hbl hbA hH.2 hg dL_law_2332 ?_
          refine lv_topi (fun i_355 ei_355 => ?_)
          have h := h i_355 ei_355
          refine hx_aload_n C0 dL_law_2333 rfl (lv_at hl 0 rfl) ?_
          refine lv_iload hx hb dL_law_2334 (lv_at hl 4 rfl) ?_
          refine lv_iconst (v := 2) hx hb dL_law_2336 (by decide) ?_
          refine lv_iadd hx hb dL_law_2337 ?_
          obtain ⟨hg, h⟩ := h
          refine va_sld hx hb hX hbl hbA hH.2 hg dL_law_2338 ?_
          refine lv_topi (fun i_356 ei_356 => ?_)
          have h := h i_356 ei_356
          refine hx_aload_n C0 dL_law_2339 rfl (lv_at hl 0 rfl) ?_
          refine lv_iload hx hb dL_law_2340 (lv_at hl 4 rfl) ?_
          refine lv_iconst (v := 3) hx hb dL_law_2342 (by decide) ?_
          refine lv_iadd hx hb dL_law_2343 ?_
          obtain ⟨hg, h⟩ := h
          refine va_sld hx hb hX hbl hbA hH.2 hg dL_law_2344 ?_
          refine lv_topi (fun i_357 ei_357 => ?_)
          have h := h i_357 ei_357
          refine hx_aload_n C0 dL_law_2345 rfl (lv_at hl 0 rfl) ?_
          refine lv_iload hx hb dL_law_2346 (lv_at hl 4 rfl) ?_
          refine lv_iconst (v := 4) hx hb dL_law_2348 (by decide) ?_
          refine lv_iadd hx hb dL_law_2349 ?_
          obtain ⟨hg, h⟩ := h
          refine va_sld hx hb hX hbl hbA hH.2 hg dL_law_2350 ?_
          refine lv_topi (fun i_358 ei_358 => ?_)
          have h := h i_358 ei_358
          refine hx_aload_n C0 dL_law_2351 rfl (lv_at hl 3 rfl) ?_
          refine hx_SWi C0 hU hH (As := [va_rf (some a1), .int i_355, .int i_356, .int i_357, .int i_358, va_rf (some a3)]) (wk_X0_seal l hst h) (vx_cwSW 6 hts (lw_SW q1044 q1045 q59 q1046) rfl rfl rfl (by decide +kernel) ⟨Nat.le_of_ble_eq_true rfl, Nat.le_of_ble_eq_true rfl⟩) rfl hl.1 rfl (Nat.le_of_ble_eq_true rfl) dL_law_2352 ⟨(show _ ≤ 1200144 by omega), (show _ ≤ 5497210 by omega)⟩ (fun i_359 w H locs hH h => ?_)
          refine lv_istore hx hb dL_law_2355 hl (by decide) (lv' := [(5, .int i_359), (0, va_rf (some b)), (1, va_rf (some a1)), (2, va_rf (some a2)), (3, va_rf (some a3)), (4, .int x4)]) rfl (fun ls hl => ?_)
          refine hx_aload_n C0 dL_law_2357 rfl (lv_at hl 3 rfl) ?_
          refine hx_aload_n C0 dL_law_2358 rfl (lv_at hl 1 rfl) ?_
          refine lv_iload hx hb dL_law_2359 (lv_at hl 5 rfl) ?_
          refine lv_iconst (v := 1) hx hb dL_law_2361 (by decide) ?_
          refine lv_iadd hx hb dL_law_2362 ?_
          obtain ⟨hg, h⟩ := h
          refine va_sld hx hb hX hbl hbA hH.2 hg dL_law_2363 ?_
          refine lv_topi (fun i_360 ei_360 => ?_)
          have h := h i_360 ei_360
          refine hx_aload_n C0 dL_law_2364 rfl (lv_at hl 1 rfl) ?_
          refine lv_iload hx hb dL_law_2365 (lv_at hl 5 rfl) ?_
          refine lv_iconst (v := 2) hx hb dL_law_2367 (by decide) ?_
          refine lv_iadd hx hb dL_law_2368 ?_
          obtain ⟨hg, h⟩ := h
          refine va_sld hx hb hX hbl hbA hH.2 hg dL_law_2369 ?_
          refine lv_topi (fun i_361 ei_361 => ?_)
          have h := h i_361 ei_361
          refine hx_aload_n C0 dL_law_2370 rfl (lv_at hl 1 rfl) ?_
          refine lv_iload hx hb dL_law_2371 (lv_at hl 5 rfl) ?_
          refine lv_iconst (v := 3) hx hb dL_law_2373 (by decide) ?_
          refine lv_iadd hx hb dL_law_2374 ?_
          obtain ⟨hg, h⟩ := h
          refine va_sld hx hb hX hbl hbA hH.2 hg dL_law_2375 ?_
          refine lv_topi (fun i_362 ei_362 => ?_)
          have h := h i_362 ei_362
          refine hx_aload_n C0 dL_law_2376 rfl (lv_at hl 1 rfl) ?_
          refine lv_iload hx hb dL_law_2377 (lv_at hl 5 rfl) ?_
          refine lv_iconst (v := 4) hx hb dL_law_2379 (by decide) ?_
          refine lv_iadd hx hb dL_law_2380 ?_
          obtain ⟨hg, h⟩ := h
          refine va_sld hx hb hX hbl hbA hH.2 hg dL_law_2381 ?_
          refine lv_topi (fun i_363 ei_363 => ?_)
          have h := h i_363 ei_363
          obtain ⟨ho, h⟩ := h
          refine hx_Vi C0 hU hH (As := [.int i_360, .int i_361, .int i_362, .int i_363]) (wk_X4_seal l h) (cwV 4 hts (lw_V q1454 q1455 q1456 q71 q1457) rfl rfl rfl (by decide +kernel) ⟨Nat.le_of_ble_eq_true rfl, Nat.le_of_ble_eq_true rfl⟩) (hx_recv hU hH (ci := 3) rfl ho) rfl hl.1 rfl (Nat.le_of_ble_eq_true rfl) dL_law_2382 ⟨(show _ ≤ 1200144 by omega), (show _ ≤ 5497210 by omega)⟩ (fun i_364 w H locs hH h => ?_)
          refine lv_istore hx hb dL_law_2385 hl (by decide) (lv' := [(6, .int i_364), (5, .int i_359), (0, va_rf (some b)), (1, va_rf (some a1)), (2, va_rf (some a2)), (3, va_rf (some a3)), (4, .int x4)]) rfl (fun ls hl => ?_)
          refine hx_aload_n C0 dL_law_2387 rfl (lv_at hl 4 rfl) ?_
          obtain ⟨ho, h⟩ := h
          refine hx_Vi C0 hU hH (As := []) (wk_X4_thrown l h) (cwV 0 hts (lw_V q1153 q1154 q1155 q71 q1156) rfl rfl rfl (by decide +kernel) ⟨Nat.le_of_ble_eq_true rfl, Nat.le_of_ble_eq_true rfl⟩) (hx_recv hU hH (ci := 3) rfl ho) rfl hl.1 rfl (Nat.le_of_ble_eq_true rfl) dL_law_2388 ⟨(show _ ≤ 1200144 by omega), (show _ ≤ 5497210 by omega)⟩ (fun i_365 w H locs hH h => ?_)
          refine lv_iload hx hb dL_law_2391 (lv_at hl 1 rfl) ?_
          refine lv_icmp_eq hx hb dL_law_2393 (tgt := 2398) (by decide) (fun c_366 => ?_) (fun c_366 => ?_)
          · have h := h.1 c_366
            refine lv_iload hx hb dL_law_2398 (lv_at hl 1 rfl) ?_
            refine lv_if_ne hx hb dL_law_2400 (tgt := 2415) (by decide) (fun c_367 => ?_) (fun c_367 => ?_)
            · have h := h.2 c_367
              refine W.widen (k := cl23 + 2) (n := sl23 + 9) (by omega) (by omega) ?_
              exact b2415 _ _ _ _ _ h _ _ _ hH (lv_sub hl [2, 3, 4, 5, 6] rfl)
            · have h := h.1 c_367
              refine hx_aload_n C0 dL_law_2403 rfl (lv_at hl 5 rfl) ?_
              refine lv_iconst (v := 0) hx hb dL_law_2404 (by decide) ?_
              refine hx_aJ C0 hU hH h dL_law_2405 (fun l_368 h => ?_)
              refine lv_iload hx hb dL_law_2406 (lv_at hl 0 rfl) ?_
              refine lv_i2l hx hb dL_law_2408 rfl ?_
              refine W.lcmp hx hb dL_law_2409 ?_
              refine lv_if_eq hx hb dL_law_2410 (tgt := 2415) (by decide) (fun c_369 => ?_) (fun c_369 => ?_)
              · have h := h.1 c_369
                refine W.widen (k := cl23 + 2) (n := sl23 + 9) (by omega) (by omega) ?_
                exact b2415 _ _ _ _ _ h _ _ _ hH (lv_sub hl [2, 3, 4, 5, 6] rfl)
              · have h := h.2 c_369
                refine lv_iconst (v := 0) hx hb dL_law_2413 (by decide) ?_
                exact h.elim
          · have h := h.2 c_366
            refine lv_iconst (v := 0) hx hb dL_law_2396 (by decide) ?_
            exact h.elim
        have h := h.2 c_370
        have nc_370 : ¬ (i_3).toInt = 32 := hx_ni c_370 rfl
        by_cases c_376 : i_3 = 33
        · have h := h.1 c_376
          have zc_376 : (i_3).toInt = 33 := by rw [c_376]; rfl
          refine lv_tableIn hx hb dL_law_39 (by rw [zc_376]; decide) (by rw [zc_376]; decide) (by rw [zc_376]; rfl) (tgt := 2418) (by decide) ?_
          refine hx_aload_n C0 dL_law_2418 rfl (lv_at hl 1 rfl) ?_
          obtain ⟨ho, h⟩ := h
          refine hx_Vf C0 hU hH (As := []) (wk_X1_share l h) (cwV 0 hts (lw_V q306 q307 q308 q60 q309) rfl rfl rfl (by decide +kernel) ⟨Nat.le_of_ble_eq_true rfl, Nat.le_of_ble_eq_true rfl⟩) (hx_recv hU hH (ci := 0) rfl ho) rfl hl.1 rfl (Nat.le_of_ble_eq_true rfl) dL_law_2419 ⟨(show _ ≤ 1200144 by omega), (show _ ≤ 5497210 by omega)⟩ (fun f_371 w H locs hH h => ?_)
          obtain ⟨hg, h⟩ := h
          refine lv_f2d hx hb dL_law_2422 hg ?_
          refine lv_dstore hx hb dL_law_2423 hl (by decide) (lv' := [(5, .double (FP.f2d f_371)), (0, va_rf (some b)), (1, va_rf (some a1)), (2, va_rf (some a2)), (3, va_rf (some a3)), (4, .int x4)]) rfl (fun ls hl => ?_)
          refine hx_aload_n C0 dL_law_2425 rfl (lv_at hl 3 rfl) ?_
          obtain ⟨ho, h⟩ := h
          refine hx_Vf C0 hU hH (As := []) (wk_X4_share l h) (cwV 0 hts (lw_V q1460 q1461 q1462 q71 q1463) rfl rfl rfl (by decide +kernel) ⟨Nat.le_of_ble_eq_true rfl, Nat.le_of_ble_eq_true rfl⟩) (hx_recv hU hH (ci := 3) rfl ho) rfl hl.1 rfl (Nat.le_of_ble_eq_true rfl) dL_law_2426 ⟨(show _ ≤ 1200144 by omega), (show _ ≤ 5497210 by omega)⟩ (fun f_372 w H locs hH h => ?_)
          obtain ⟨hg, h⟩ := h
          refine lv_f2d hx hb dL_law_2429 hg ?_
          refine lv_dstore hx hb dL_law_2430 hl (by decide) (lv' := [(7, .double (FP.f2d f_372)), (5, .double (FP.f2d f_371)), (0, va_rf (some b)), (1, va_rf (some a1)), (2, va_rf (some a2)), (3, va_rf (some a3)), (4, .int x4)]) rfl (fun ls hl => ?_)
          refine lv_dload hx hb dL_law_2432 (lv_at hl 1 rfl) ?_
          refine lv_dload hx hb dL_law_2434 (lv_at hl 0 rfl) ?_
          refine lv_dcmp hx hb dL_law_2436 ?_
          refine lv_if_eq hx hb dL_law_2437 (tgt := 2458) (by decide) (fun c_373 => ?_) (fun c_373 => ?_)
          · have h := h.1 c_373
            refine W.widen (k := cl23 + 0) (n := sl23 + 0) (by omega) (by omega) ?_
            exact b2458 _ _ _ _ _ h _ _ _ hH (lv_sub hl [2, 3, 4, 5, 6] rfl)
          · have h := h.2 c_373
            refine lv_dload hx hb dL_law_2440 (lv_at hl 1 rfl) ?_
            refine lv_dload hx hb dL_law_2442 (lv_at hl 1 rfl) ?_
            refine lv_dcmp hx hb dL_law_2444 ?_
            refine lv_if_eq hx hb dL_law_2445 (tgt := 2456) (by decide) (fun c_374 => ?_) (fun c_374 => ?_)
            · have h := h.1 c_374
              refine lv_iconst (v := 0) hx hb dL_law_2456 (by decide) ?_
              exact h.elim
            · have h := h.2 c_374
              refine lv_dload hx hb dL_law_2448 (lv_at hl 0 rfl) ?_
              refine lv_dload hx hb dL_law_2450 (lv_at hl 0 rfl) ?_
              refine lv_dcmp hx hb dL_law_2452 ?_
              refine lv_if_ne hx hb dL_law_2453 (tgt := 2458) (by decide) (fun c_375 => ?_) (fun c_375 => ?_)
              · have h := h.2 c_375
                refine W.widen (k := cl23 + 0) (n := sl23 + 0) (by omega) (by omega) ?_
                exact b2458 _ _ _ _ _ h _ _ _ hH (lv_sub hl [2, 3, 4, 5, 6] rfl)
              · have h := h.1 c_375
                refine lv_iconst (v := 0) hx hb dL_law_2456 (by decide) ?_
                exact h.elim
        have h := h.2 c_376
        have nc_376 : ¬ (i_3).toInt = 33 := hx_ni c_376 rfl
        by_cases c_382 : i_3 = 34
        · have h := h.1 c_382
          have zc_382 : (i_3).toInt = 34 := by rw [c_382]; rfl
          refine lv_tableIn hx hb dL_law_39 (by rw [zc_382]; decide) (by rw [zc_382]; decide) (by rw [zc_382]; rfl) (tgt := 2461) (by decide) ?_
          refine hx_aload_n C0 dL_law_2461 rfl (lv_at hl 1 rfl) ?_
          obtain ⟨ho, h⟩ := h
          refine hx_Vd C0 hU hH (As := []) (wk_X1_meanAge l h) (cwV 0 hts (lw_V q310 q311 q312 q60 q313) rfl rfl rfl (by decide +kernel) ⟨Nat.le_of_ble_eq_true rfl, Nat.le_of_ble_eq_true rfl⟩) (hx_recv hU hH (ci := 0) rfl ho) rfl hl.1 rfl (Nat.le_of_ble_eq_true rfl) dL_law_2462 ⟨(show _ ≤ 1200144 by omega), (show _ ≤ 5497210 by omega)⟩ (fun d_377 w H locs hH h => ?_)
          refine lv_dstore hx hb dL_law_2465 hl (by decide) (lv' := [(5, .double d_377), (0, va_rf (some b)), (1, va_rf (some a1)), (2, va_rf (some a2)), (3, va_rf (some a3)), (4, .int x4)]) rfl (fun ls hl => ?_)
          refine hx_aload_n C0 dL_law_2467 rfl (lv_at hl 3 rfl) ?_
          obtain ⟨ho, h⟩ := h
          refine hx_Vd C0 hU hH (As := []) (wk_X4_meanAge l h) (cwV 0 hts (lw_V q1464 q1465 q1466 q71 q1467) rfl rfl rfl (by decide +kernel) ⟨Nat.le_of_ble_eq_true rfl, Nat.le_of_ble_eq_true rfl⟩) (hx_recv hU hH (ci := 3) rfl ho) rfl hl.1 rfl (Nat.le_of_ble_eq_true rfl) dL_law_2468 ⟨(show _ ≤ 1200144 by omega), (show _ ≤ 5497210 by omega)⟩ (fun d_378 w H locs hH h => ?_)
          refine lv_dstore hx hb dL_law_2471 hl (by decide) (lv' := [(7, .double d_378), (5, .double d_377), (0, va_rf (some b)), (1, va_rf (some a1)), (2, va_rf (some a2)), (3, va_rf (some a3)), (4, .int x4)]) rfl (fun ls hl => ?_)
          refine lv_dload hx hb dL_law_2473 (lv_at hl 1 rfl) ?_
          refine lv_dload hx hb dL_law_2475 (lv_at hl 0 rfl) ?_
          refine lv_dcmp hx hb dL_law_2477 ?_
          refine lv_if_eq hx hb dL_law_2478 (tgt := 2499) (by decide) (fun c_379 => ?_) (fun c_379 => ?_)
          · have h := h.1 c_379
            refine W.widen (k := cl23 + 0) (n := sl23 + 0) (by omega) (by omega) ?_
            exact b2499 _ _ _ _ _ h _ _ _ hH (lv_sub hl [2, 3, 4, 5, 6] rfl)
          · have h := h.2 c_379
            refine lv_dload hx hb dL_law_2481 (lv_at hl 1 rfl) ?_
            refine lv_dload hx hb dL_law_2483 (lv_at hl 1 rfl) ?_
            refine lv_dcmp hx hb dL_law_2485 ?_
            refine lv_if_eq hx hb dL_law_2486 (tgt := 2497) (by decide) (fun c_380 => ?_) (fun c_380 => ?_)
            · have h := h.1 c_380
              refine lv_iconst (v := 0) hx hb dL_law_2497 (by decide) ?_
              exact h.elim
            · have h := h.2 c_380
              refine lv_dload hx hb dL_law_2489 (lv_at hl 0 rfl) ?_
              refine lv_dload hx hb dL_law_2491 (lv_at hl 0 rfl) ?_
              refine lv_dcmp hx hb dL_law_2493 ?_
              refine lv_if_ne hx hb dL_law_2494 (tgt := 2499) (by decide) (fun c_381 => ?_) (fun c_381 => ?_)
              · have h := h.2 c_381
                refine W.widen (k := cl23 + 0) (n := sl23 + 0) (by omega) (by omega) ?_
                exact b2499 _ _ _ _ _ h _ _ _ hH (lv_sub hl [2, 3, 4, 5, 6] rfl)
              · have h := h.1 c_381
                refine lv_iconst (v := 0) hx hb dL_law_2497 (by decide) ?_
                exact h.elim
        have h := h.2 c_382
        have nc_382 : ¬ (i_3).toInt = 34 := hx_ni c_382 rfl
        by_cases c_386 : i_3 = 35
        · have h := h.1 c_386
          have zc_386 : (i_3).toInt = 35 := by rw [c_386]; rfl
          refine lv_tableIn hx hb dL_law_39 (by rw [zc_386]; decide) (by rw [zc_386]; decide) (by rw [zc_386]; rfl) (tgt := 2502) (by decide) ?_
          refine hx_aload_n C0 dL_law_2502 rfl (lv_at hl 1 rfl) ?_
          obtain ⟨ho, h⟩ := h
          refine hx_Vi C0 hU hH (As := []) (wk_X1_isSound l h) (cwV 0 hts (lw_V q318 q319 q320 q60 q321) rfl rfl rfl (by decide +kernel) ⟨Nat.le_of_ble_eq_true rfl, Nat.le_of_ble_eq_true rfl⟩) (hx_recv hU hH (ci := 0) rfl ho) rfl hl.1 rfl (Nat.le_of_ble_eq_true rfl) dL_law_2503 ⟨(show _ ≤ 1200144 by omega), (show _ ≤ 5497210 by omega)⟩ (fun i_383 w H locs hH h => ?_)
          refine hx_aload_n C0 dL_law_2506 rfl (lv_at hl 2 rfl) ?_
          obtain ⟨ho, h⟩ := h
          refine hx_Vi C0 hU hH (As := []) (wk_X4_isSound l h) (cwV 0 hts (lw_V q1468 q1469 q1470 q71 q1471) rfl rfl rfl (by decide +kernel) ⟨Nat.le_of_ble_eq_true rfl, Nat.le_of_ble_eq_true rfl⟩) (hx_recv hU hH (ci := 3) rfl ho) rfl hl.1 rfl (Nat.le_of_ble_eq_true rfl) dL_law_2507 ⟨(show _ ≤ 1200144 by omega), (show _ ≤ 5497210 by omega)⟩ (fun i_384 w H locs hH h => ?_)
          refine lv_icmp_eq hx hb dL_law_2510 (tgt := 2529) (by decide) (fun c_385 => ?_) (fun c_385 => ?_)
          · have h := h.1 c_385
            refine W.widen (k := cl23 + 150) (n := sl23 + 16853) (by omega) (by omega) ?_
            exact b2529 _ _ _ _ _ h _ _ _ hH (lv_sub hl [0, 1, 2, 3, 4] rfl)
          · have h := h.2 c_385
            refine lv_iconst (v := 0) hx hb dL_law_2513 (by decide) ?_
            exact h.elim
        have h := h.2 c_386
        have nc_386 : ¬ (i_3).toInt = 35 := hx_ni c_386 rfl
        by_cases c_390 : i_3 = 36
        · have h := h.1 c_390
          have zc_390 : (i_3).toInt = 36 := by rw [c_390]; rfl
          refine lv_tableIn hx hb dL_law_39 (by rw [zc_390]; decide) (by rw [zc_390]; decide) (by rw [zc_390]; rfl) (tgt := 2515) (by decide) ?_
          refine hx_aload_n C0 dL_law_2515 rfl (lv_at hl 1 rfl) ?_
          obtain ⟨ho, h⟩ := h
          refine hx_Vl C0 hU hH (As := []) (wk_X1_checksum l h) (cwV 0 hts (lw_V q462 q463 q464 q60 q465) rfl rfl rfl (by decide +kernel) ⟨Nat.le_of_ble_eq_true rfl, Nat.le_of_ble_eq_true rfl⟩) (hx_recv hU hH (ci := 0) rfl ho) rfl hl.1 rfl (Nat.le_of_ble_eq_true rfl) dL_law_2516 ⟨(show _ ≤ 1200144 by omega), (show _ ≤ 5497210 by omega)⟩ (fun l_387 w H locs hH h => ?_)
          refine hx_aload_n C0 dL_law_2519 rfl (lv_at hl 2 rfl) ?_
          obtain ⟨ho, h⟩ := h
          refine hx_Vl C0 hU hH (As := []) (wk_X4_checksum l h) (cwV 0 hts (lw_V q1472 q1473 q1474 q71 q1475) rfl rfl rfl (by decide +kernel) ⟨Nat.le_of_ble_eq_true rfl, Nat.le_of_ble_eq_true rfl⟩) (hx_recv hU hH (ci := 3) rfl ho) rfl hl.1 rfl (Nat.le_of_ble_eq_true rfl) dL_law_2520 ⟨(show _ ≤ 1200144 by omega), (show _ ≤ 5497210 by omega)⟩ (fun l_388 w H locs hH h => ?_)
          refine W.lcmp hx hb dL_law_2523 ?_
          refine lv_if_eq hx hb dL_law_2524 (tgt := 2529) (by decide) (fun c_389 => ?_) (fun c_389 => ?_)
          · have h := h.1 c_389
            refine W.widen (k := cl23 + 150) (n := sl23 + 16853) (by omega) (by omega) ?_
            exact b2529 _ _ _ _ _ h _ _ _ hH (lv_sub hl [0, 1, 2, 3, 4] rfl)
          · have h := h.2 c_389
            refine lv_iconst (v := 0) hx hb dL_law_2527 (by decide) ?_
            exact h.elim
        have h := h.2 c_390
        have nc_390 : ¬ (i_3).toInt = 36 := hx_ni c_390 rfl
        refine lv_tableOut hx hb dL_law_39 (by omega) (tgt := 2529) (by decide) ?_
        refine W.widen (k := cl23 + 150) (n := sl23 + 16853) (by omega) (by omega) ?_
        exact b2529 _ _ _ _ _ h _ _ _ hH (lv_sub hl [0, 1, 2, 3, 4] rfl)
  refine hx_new C0 hU hH (ci := 0) rfl in_X1 tyX1 tyX1_ok q87 q88 q60 nfX1 (Nat.le_of_ble_eq_true rfl) (Nat.le_of_ble_eq_true rfl) h dL_law_0 (fun b_1 w H locs hH h => ?_)
  refine lv_dup hx hb dL_law_3 rfl ?_
  refine hx_Iv C0 hU hH (As := []) (wk_X1_init l h) (cwI 0 hts (lw_meth q91) rfl rfl rfl (hts _ q60) (hts _ q89) (hts _ q90) rfl (by decide +kernel) ⟨Nat.le_of_ble_eq_true rfl, Nat.le_of_ble_eq_true rfl⟩) rfl hl.1 rfl (Nat.le_of_ble_eq_true rfl) dL_law_4 ⟨Nat.le_of_ble_eq_true rfl, Nat.le_of_ble_eq_true rfl⟩ (fun w H locs hH h => ?_)
  refine hx_astore_n C0 dL_law_7 rfl hl (by decide) (lv' := [(1, va_rf (some b_1)), (0, va_rf (some b))]) rfl (fun ls hl => ?_)
  refine hx_new C0 hU hH (ci := 3) rfl in_X4 tyX4 tyX4_ok q1056 q1057 q71 nfX4 (Nat.le_of_ble_eq_true rfl) (Nat.le_of_ble_eq_true rfl) h dL_law_8 (fun b_2 w H locs hH h => ?_)
  refine lv_dup hx hb dL_law_11 rfl ?_
  refine hx_Iv C0 hU hH (As := []) (wk_X4_init l h) (cwI 0 hts (lw_meth q1060) rfl rfl rfl (hts _ q71) (hts _ q1058) (hts _ q1059) rfl (by decide +kernel) ⟨Nat.le_of_ble_eq_true rfl, Nat.le_of_ble_eq_true rfl⟩) rfl hl.1 rfl (Nat.le_of_ble_eq_true rfl) dL_law_12 ⟨Nat.le_of_ble_eq_true rfl, Nat.le_of_ble_eq_true rfl⟩ (fun w H locs hH h => ?_)
  refine hx_astore_n C0 dL_law_15 rfl hl (by decide) (lv' := [(2, va_rf (some b_2)), (1, va_rf (some b_1)), (0, va_rf (some b))]) rfl (fun ls hl => ?_)
  refine lv_iconst (v := 1) hx hb dL_law_16 (by decide) ?_
  refine hx_nJ C0 hU hH (Nat.le_of_ble_eq_true rfl) (Nat.le_of_ble_eq_true rfl) (Nat.le_of_ble_eq_true rfl) h dL_law_17 (fun b_3 w H locs hH h => ?_)
  refine hx_astore_n C0 dL_law_19 rfl hl (by decide) (lv' := [(3, va_rf (some b_3)), (2, va_rf (some b_2)), (1, va_rf (some b_1)), (0, va_rf (some b))]) rfl (fun ls hl => ?_)
  refine lv_iconst (v := 0) hx hb dL_law_20 (by decide) ?_
  refine lv_istore hx hb dL_law_21 hl (by decide) (lv' := [(4, .int (0 : Int32)), (3, va_rf (some b_3)), (2, va_rf (some b_2)), (1, va_rf (some b_1)), (0, va_rf (some b))]) rfl (fun ls hl => ?_)
  refine W.widen (k := 397) (n := 4475) (Nat.le_of_ble_eq_true rfl) (Nat.le_of_ble_eq_true rfl) ?_
  exact L23 25 (397) (4475) (Nat.le_of_ble_eq_true rfl) (Nat.le_of_ble_eq_true rfl) _ _ _ _ _ h _ _ _ hH (lv_sub hl [4, 3, 2, 1, 0] rfl)
