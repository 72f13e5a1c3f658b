/-! THE START: what the tables and the premises say, as the world's constant knowledge -/
set_option maxRecDepth 100000
theorem hs_prim {s : State} {args : Array Value} {ty : FieldType} (h : (Cond.arrayClass ty).before args s = true) : ∃ cA : ClassId, ArrOfT s cA ty ∧ s.vm.findClass ("[" ++ ty.toString) = some cA := by
  obtain ⟨c, k, comp, h1, h2, h3⟩ := Cond.arrayClass_spec h
  exact ⟨c, fun n z => ⟨fun k h => (by cases h), k, h2, comp, h3⟩, h1⟩
theorem hs_obj {s : State} {args : Array Value} {C : String} (h : (Cond.arrayOver (.object C)).before args s = true) : ∃ cA : ClassId, ArrOfT s cA (.object C) ∧ va_RA s cA (.object C) ∧ s.vm.findClass ("[" ++ (FieldType.object C).toString) = some cA := by
  obtain ⟨comp, c, k, h1, -, h2, h3, h4⟩ := Cond.arrayOver_spec h
  exact ⟨c, fun n z => ⟨fun k h => (by cases h), k, h2, comp, h3⟩, ⟨k, comp, h2, h3, h1, h4⟩, h4⟩
theorem hs_arr {s : State} {args : Array Value} {t : FieldType} {cJ : ClassId} (hJ9 : s.vm.findClass ("[" ++ t.toString) = some cJ) (h : (Cond.arrayOver (.array t)).before args s = true) : ∃ cA : ClassId, ArrOfT s cA (.array t) ∧ s.vm.findClass ("[" ++ (FieldType.array t).toString) = some cA ∧ ∃ kA : Class, s.vm.classes[cA]? = some kA ∧ kA.kind = .array cJ (.array t) := by
  obtain ⟨comp, c, k, h1, -, h2, h3, h4⟩ := arrayOverA_spec h
  have : comp = cJ := Option.some.inj (h1.symm.trans hJ9)
  subst this
  exact ⟨c, fun n z => ⟨fun k h => (by cases h), k, h2, comp, h3⟩, h4, k, h2, h3⟩
theorem hs_strs : (lw_tbl.all fun w => match w with | .stringRef own k _ => decide (Cond.exactly (.string own k) "java/lang/String" ∈ flatC (Jvm.Cond.and given_1 narrow_1)) | _ => true) = true := by decide +kernel
theorem hs_ncs : (hx_nc.all fun q => decide (Cond.not (.castable q.1 q.2) ∈ flatC (Jvm.Cond.and given_1 narrow_1))) = true := by decide +kernel
abbrev hs_D : Term := .static "java/util/ArrayList" "DEFAULTCAPACITY_EMPTY_ELEMENTDATA" "[Ljava/lang/Object;"
theorem hs_m0 : Cond.untouched hs_D ∈ flatC (Jvm.Cond.and given_1 narrow_1) := by decide +kernel
theorem hs_m1 : Cond.exactly hs_D "[Ljava/lang/Object;" ∈ flatC (Jvm.Cond.and given_1 narrow_1) := by decide +kernel
theorem hs_m2 : Cond.eq (.length hs_D) (.int 0) ∈ flatC (Jvm.Cond.and given_1 narrow_1) := by decide +kernel
theorem hs_m3 : Cond.isRef (.static Bundle.tN "UNASSIGNED_STACK" Bundle.steD) ∈ flatC (Jvm.Cond.and given_1 narrow_1) := by decide +kernel
theorem hs_m4 : Cond.isRef (.static Bundle.tN "SUPPRESSED_SENTINEL" Bundle.listD) ∈ flatC (Jvm.Cond.and given_1 narrow_1) := by decide +kernel
theorem hs_m5 : Cond.isRef (.mirror "[Ljava/lang/Object;") ∈ flatC (Jvm.Cond.and given_1 narrow_1) := by decide +kernel
theorem hs_len {args : Array Value} {s : State} {t : Term} {a : Addr} {cell : Cell} (h : (Cond.eq (.length t) (.int 0)).before args s = true) (ht : t.eval args s none [] s = some (.ref a)) (hc : s.heap[a]? = some cell) : cell.slots.size = 0 := by
  cases hv : (Term.length t).eval args s none [] s with
  | none => simp [Cond.before, Cond.holds, Cond.value, hv] at h
  | some w =>
    obtain ⟨b, cell', h1, h2, h3⟩ := Term.length_spec hv
    cases ht.symm.trans h1
    obtain ⟨h4, -, -, -⟩ := State.arrayAt?_spec h2
    cases hc.symm.trans h4
    have hsz : cell.slots.size < 2147483648 := by
      simp only [Term.eval, ht, h2, Option.bind_eq_bind, Option.bind_some] at hv
      by_cases hlt : cell.slots.size < 2147483648
      · exact hlt
      · simp [hlt] at hv
    have h5 : (Term.int 0).eval args s none [] s = some (.int 0) := rfl
    simp only [Cond.before, Cond.holds, Cond.value, hv, h5, h3] at h
    have h6 : cell.slots.size.toInt32 = 0 := by simpa using h
    have h7 : (cell.slots.size.toInt32).toInt = 0 := by rw [h6]; rfl
    have h8 : (Int32.ofNat cell.slots.size).toInt = 0 := h7
    rw [Int32.toInt_ofNat_small hsz] at h8
    omega
def hs_w (e : Nat) : Hp := fun a => if a = e then some roE else none
theorem hs_D_cell {args : Array Value} {s : State} {cO : ClassId} (hgv : ∀ c ∈ flatC (Jvm.Cond.and given_1 narrow_1), c.before args s = true) (hO : s.vm.findClass ("[" ++ (FieldType.object "java/lang/Object").toString) = some cO) :
    ∃ e : Nat, hs_D.eval args s none [] s = some (.ref e) ∧ s.heap[e]? = some (vp_cell cO (0, .inr (.inr (.inr (.inr (fun _ => none)))))) := by
  obtain ⟨e, cell, h1, h2, h3, h4, h5⟩ := Cond.untouched_spec (hgv _ hs_m0)
  obtain ⟨e', c, cell', k, g1, g2, g3, -, -, g6, -⟩ := Cond.exactly_spec (hgv _ hs_m1)
  cases h1.symm.trans g1
  cases h2.symm.trans g3
  have hn : ("[" ++ (FieldType.object "java/lang/Object").toString) = "[Ljava/lang/Object;" := by decide +kernel
  rw [hn] at hO
  cases hO.symm.trans g2
  have hz := hs_len (hgv _ hs_m2) h1 h2
  refine ⟨e, h1, h2.trans (congrArg some ?_)⟩
  obtain ⟨f1, f2, f3, f4, f5⟩ := cell
  cases g6
  cases h3; cases h4; cases h5
  have : f2 = #[] := Array.size_eq_zero_iff.mp hz
  subst this
  rfl
theorem hs_start {args : Array Value} {s : State} (hts : ∀ w ∈ lw_tbl, w.before args s = true) (hgv0 : (Jvm.Cond.and given_1 narrow_1).before args s = true) : ∃ G : hG, hG_b G = s.heap.size ∧ hx_U G s ∧ hx_P G (hs_w (hG_e G)) s.heap := by
  have hgv := flat_of_before _ hgv0
  have ha : ∀ w ∈ lw_all, w.before args s = true := fun w h => hts w (lw_all_tbl h)
  have hA0 : ∀ a : Nat, a < s.heap.size → ¬ s.heap.size ≤ a := fun a h => Nat.not_le.mpr h
  obtain ⟨c0, iS0, hK0⟩ := u_known (C := RX1) (T := TX1) (N := 10) (n := 10) ha in_X1 (ha _ q88)
  obtain ⟨c1, iS1, hK1⟩ := u_known (C := RX2) (T := TX2) (N := 4) (n := 4) ha in_X2 (ha _ q132)
  obtain ⟨c2, iS2, hK2⟩ := u_known (C := RX3) (T := TX3) (N := 11) (n := 11) ha in_X3 (ha _ q216)
  obtain ⟨c3, iS3, hK3⟩ := u_known (C := RX4) (T := TX4) (N := 27) (n := 27) ha in_X4 (ha _ q1057)
  obtain ⟨c4, iS4, hK4⟩ := u_known (C := RX5) (T := TX5) (N := 7) (n := 7) ha in_X5 (ha _ q448)
  obtain ⟨c5, iS5, hK5⟩ := u_known (C := RX6) (T := TX6) (N := 5) (n := 5) ha in_X6 (ha _ q712)
  obtain ⟨c6, iS6, hK6⟩ := u_known (C := RX7) (T := TX7) (N := 10) (n := 10) ha in_X7 (ha _ q442)
  obtain ⟨c7, iS7, hK7⟩ := u_known (C := RJ2) (T := TJ2) (N := 3) (n := 3) ha in_J2 (ha _ q102)
  obtain ⟨c8, iS8, hK8⟩ := u_known (C := RJ17) (T := TJ17) (N := 4) (n := 4) ha in_J17 (ha _ q331)
  obtain ⟨D, hKc⟩ : ∃ D : va_G, ∀ (k : Nat) (q : vw_C), hC[k]? = some q → u_Kn s q.1 q.2.1 q.2.2 (D.1 k) (D.2 k) := by
    refine ⟨(fun k => [c0, c1, c2, c3, c4, c5, c6, c7, c8].getD k 0, fun k => [iS0, iS1, iS2, iS3, iS4, iS5, iS6, iS7, iS8].getD k (fun _ => 0)), ?_⟩
    intro k q hq
    match k, hq with
    | 0, hq => cases hq; exact hK0
    | 1, hq => cases hq; exact hK1
    | 2, hq => cases hq; exact hK2
    | 3, hq => cases hq; exact hK3
    | 4, hq => cases hq; exact hK4
    | 5, hq => cases hq; exact hK5
    | 6, hq => cases hq; exact hK6
    | 7, hq => cases hq; exact hK7
    | 8, hq => cases hq; exact hK8
    | k + 9, hq => simp [hC] at hq
  obtain ⟨a0, A0, N0⟩ := hs_prim (hts _ (lw_all_tbl q130))
  obtain ⟨a1, A1, N1⟩ := hs_prim (hts _ (lw_all_tbl q131))
  obtain ⟨a2, A2, N2⟩ := hs_prim (hts _ (lw_all_tbl q1480))
  obtain ⟨a3, A3, R3, N3⟩ := hs_obj (hts _ q99)
  obtain ⟨a4, A4, N4, K4⟩ := hs_arr N3 (hts _ q98)
  obtain ⟨a5, A5, R5, N5⟩ := hs_obj (hts _ q96)
  obtain ⟨a6, A6, R6, N6⟩ := hs_obj (hts _ q205)
  obtain ⟨a7, A7, N7, K7⟩ := hs_arr N0 (hts _ q222)
  obtain ⟨a8, A8, N8, K8⟩ := hs_arr N7 (hts _ q1063)
  obtain ⟨a9, A9, N9, K9⟩ := hs_arr N8 (hts _ q1066)
  obtain ⟨a10, A10, N10, K10⟩ := hs_arr N1 (hts _ q1070)
  obtain ⟨a11, A11, N11, K11⟩ := hs_arr N10 (hts _ q1069)
  obtain ⟨a12, A12, N12, K12⟩ := hs_arr N11 (hts _ q1068)
  obtain ⟨e, he, hec⟩ := hs_D_cell hgv N6
  obtain ⟨mi, hmi⟩ := va_Mi.of (hgv _ hs_m5)
  have helt : e < s.heap.size := (Array.getElem?_eq_some_iff.mp hec).1
  refine ⟨(D, (fun k => [a0, a1, a2, a3, a4, a5, a6, a7, a8, a9, a10, a11, a12, a6].getD k 0), s.heap.size, e, mi), rfl, ⟨⟨hKc, ?_⟩, ?_, fun w h1 h2 => va_Nw.of (hx_rd_on h2) (hts w h1), ⟨va_AO.of (hts _ q96), va_AO.of (hts _ q205), hts _ q222⟩, ⟨va_Fw.of (hts _ q352) (hts _ q351) (hts _ q357) (hts _ q355) (hts _ q353), va_Fw.of (hts _ q362) (hts _ q361) (hts _ q366) (hts _ q364) (hts _ q353)⟩, ⟨va_Dc.of (hts _ q1502), hmi⟩, fun q hq => va_Nc.of (hgv _ (of_decide_eq_true (List.all_eq_true.mp hs_ncs q hq))), ?_, va_Zref (hts _ q114) (ha _ q63) he hA0, ⟨vx_Zqof (hts _ q399) (ha _ q72) (hgv _ hs_m3) hA0, vx_Zqof (hts _ q401) (ha _ q72) (hgv _ hs_m4) hA0⟩, ⟨hec, helt, Nat.le_refl _⟩, rfl⟩, ?_⟩
  · intro k q hq
    match k, hq with
    | 0, hq => cases hq; exact ⟨A0, N0⟩
    | 1, hq => cases hq; exact ⟨A1, N1⟩
    | 2, hq => cases hq; exact ⟨A2, N2⟩
    | 3, hq => cases hq; exact ⟨A3, R3⟩
    | 4, hq => cases hq; exact ⟨A4, N4⟩
    | 5, hq => cases hq; exact ⟨A5, R5⟩
    | 6, hq => cases hq; exact ⟨A6, R6⟩
    | 7, hq => cases hq; exact ⟨A7, N7⟩
    | 8, hq => cases hq; exact ⟨A8, N8⟩
    | 9, hq => cases hq; exact ⟨A9, N9⟩
    | 10, hq => cases hq; exact ⟨A10, N10⟩
    | 11, hq => cases hq; exact ⟨A11, N11⟩
    | 12, hq => cases hq; exact ⟨A12, N12⟩
    | 13, hq => cases hq; exact ⟨A6, R6⟩
    | k + 14, hq => simp [hTy] at hq
  · intro t j hj
    match t, hj with
    | 4, hj => cases hj; exact K4
    | 7, hj => cases hj; exact K7
    | 8, hj => cases hj; exact K8
    | 9, hj => cases hj; exact K9
    | 10, hj => cases hj; exact K10
    | 11, hj => cases hj; exact K11
    | 12, hj => cases hj; exact K12
    | 0, hj => cases hj
    | 1, hj => cases hj
    | 2, hj => cases hj
    | 3, hj => cases hj
    | 5, hj => cases hj
    | 6, hj => cases hj
    | k + 13, hj => cases hj
  · intro own k tx hm
    have h1 := List.all_eq_true.mp hs_strs _ hm
    obtain ⟨a, c, cell, k9, g1, -⟩ := Cond.exactly_spec (hgv _ (of_decide_eq_true h1))
    exact ⟨a, vk_R.of (hts _ hm) g1⟩
  · refine ⟨fun a e9 h => Or.inl ?_, ?_⟩
    · unfold hs_w at h
      split at h
      · rename_i hae
        exact ⟨hae, (Option.some.inj h).symm⟩
      · cases h
    · simp [hs_w]
