/-! THE WORLD: what lies at each address, as a map. -/
set_option maxRecDepth 100000
abbrev hE : Type := (Nat × vp_A) ⊕ (Nat × List Value)
abbrev Hp : Type := Nat → Option hE
abbrev hG : Type := ((Nat → ClassId) × (Nat → Nat → Nat)) × (Nat → ClassId) × Nat × Nat × Nat
abbrev hG_D (G : hG) : va_G := G.1
abbrev hG_A (G : hG) : Nat → ClassId := G.2.1
abbrev hG_b (G : hG) : Nat := G.2.2.1
abbrev hG_e (G : hG) : Nat := G.2.2.2.1
abbrev hG_m (G : hG) : Nat := G.2.2.2.2
abbrev hC : List vw_C := [(RX1, TX1, 10), (RX2, TX2, 4), (RX3, TX3, 11), (RX4, TX4, 27), (RX5, TX5, 7), (RX6, TX6, 5), (RX7, TX7, 10), (RJ2, TJ2, 3), (RJ17, TJ17, 4)]
/-- array types by code; 6: Object[], 13: Object[] that is never written -/
def hT : Nat → FieldType := fun k => match k with
  | 0 => .int
  | 1 => .boolean
  | 2 => .long
  | 3 => .object "Burrowline$Side"
  | 4 => .array (.object "Burrowline$Side")
  | 5 => .object "Burrowline$Table"
  | 7 => .array .int
  | 8 => .array (.array .int)
  | 9 => .array (.array (.array .int))
  | 10 => .array .boolean
  | 11 => .array (.array .boolean)
  | 12 => .array (.array (.array .boolean))
  | _ => .object "java/lang/Object"
abbrev hTy (dA : Nat → ClassId) : List (ClassId × FieldType) := (List.range 14).map fun k => (dA k, hT k)
theorem hTy_at (dA : Nat → ClassId) {t : Nat} (h : t < 14) : (hTy dA)[t]? = some (dA t, hT t) := by simp [hTy, h]
theorem hT_ref {t : Nat} (h : 3 ≤ t) (h2 : t < 14) : (hT t).isReference = true := by
  have : t = 3 ∨ t = 4 ∨ t = 5 ∨ t = 6 ∨ t = 7 ∨ t = 8 ∨ t = 9 ∨ t = 10 ∨ t = 11 ∨ t = 12 ∨ t = 13 := by omega
  rcases this with e | e | e | e | e | e | e | e | e | e | e <;> subst e <;> rfl
def hJ : Nat → Option Nat := fun k => match k with
  | 4 => some 3
  | 7 => some 0
  | 8 => some 7
  | 9 => some 8
  | 10 => some 1
  | 11 => some 10
  | 12 => some 11
  | _ => none
def hx_e (dA : Nat → ClassId) : hE → va_E := fun e => match e with
  | .inl a => .inl (dA a.1, a.2)
  | .inr o => .inr o
def hx_wr : hE → Bool := fun e => match e with
  | .inl a => decide (a.1 < 13)
  | .inr _ => true
abbrev roE : hE := .inl (13, 0, .inr (.inr (.inr (.inr (fun _ => none)))))
def hu (w : Hp) (a : Nat) (e : hE) : Hp := fun b => if b = a then some e else w b
theorem hu_s {w : Hp} {a : Nat} {e : hE} : hu w a e a = some e := by simp [hu]
theorem hu_n {w : Hp} {a b : Nat} {e : hE} (h : b ≠ a) : hu w a e b = w b := by simp [hu, h]
def hx_A (G : hG) : Nat → Prop := fun q => hG_b G ≤ q
/-- the heap holds the world -/
def hx_P (G : hG) (w : Hp) (H : Heap) : Prop := (∀ a e, w a = some e → (a = hG_e G ∧ e = roE) ∨ (hx_wr e = true ∧ hG_b G ≤ a ∧ va_at (hG_D G) hC (a, hx_e (hG_A G) e) H)) ∧ w (hG_e G) = some roE
def hx_rd : Cond → Bool := fun w => match w with
  | .fieldLinkNest _ _ _ _ _ _ => true
  | .methodLinkNest _ _ _ _ => true
  | .castable _ _ => true
  | .declares _ => true
  | _ => false
def hx_RA (G : hG) (U : State) : Prop := ∀ t j, hJ t = some j → ∃ kA : Class, U.vm.classes[hG_A G t]? = some kA ∧ kA.kind = .array (hG_A G j) (hT t)
/-- `arrayOver` of an array type rides like va_AO -/
def hx_AO (t : FieldType) (U : State) : Prop := (Cond.arrayOver (.array t)).before #[] U = true
theorem hx_AO.moved {t : FieldType} {u U : State} (hvm : u.vm.Alike U.vm) (h : hx_AO t u) : hx_AO t U := by
  obtain ⟨comp, c, k, h1, h2, h3, h4, h5⟩ := arrayOverA_spec h
  obtain ⟨k', hk', he⟩ := hvm.2.2 _ _ h3
  have hi : (U.vm.classes.findIdx? fun (x : Class) => match x.kind with | .array component _ => component == comp | _ => false) = some c := by
    rw [hvm.findIdx?_eq _ (fun _ => rfl)]
    exact h2
  have hkind : k'.kind = .array comp (.array t) := by rw [he]; exact h4
  have f1 : U.vm.findClass (FieldType.array t).toString = some comp := by rw [hvm.findClass]; exact h1
  have f2 : U.vm.findClass ("[" ++ (FieldType.array t).toString) = some c := by rw [hvm.findClass]; exact h5
  unfold hx_AO Cond.before Cond.holds
  simp only [Cond.value]
  rw [f1, Option.bind_some]
  refine (congrArg (fun o : Option Nat => (o.bind (fun c => (U.vm.classes[c]?).map fun (k : Class) => match k.kind with | .array _ ty => decide (ty = FieldType.array t) && decide (U.vm.findClass ("[" ++ (FieldType.array t).toString) = some c) | _ => false) == some true)) hi).trans ?_
  rw [Option.bind_some, hk', Option.map_some, hkind]
  simp [f2]
abbrev yIt_hasNext : MethodName := ⟨"java/util/Iterator", "hasNext", "()Z"⟩
abbrev yIt_next : MethodName := ⟨"java/util/Iterator", "next", "()Ljava/lang/Object;"⟩
abbrev eIO : String := "java/lang/IndexOutOfBoundsException"
abbrev eIA : String := "java/lang/IllegalArgumentException"
abbrev eIS : String := "java/lang/IllegalStateException"
abbrev eNS : String := "java/util/NoSuchElementException"
abbrev hx_nc : List (String × String) := [(eIA, eIO), (eIS, eIO), (eIS, eIA), (eNS, eIO), (eNS, eIA)]
/-- what the tables, and the heap's fixed cells, say all through -/
def hx_U (G : hG) (U : State) : Prop :=
  va_K (hG_D G) hC (hTy (hG_A G)) U ∧ hx_RA G U ∧ (∀ w ∈ lw_tbl, hx_rd w = true → va_Nw w U) ∧
  (va_AO "Burrowline$Table" U ∧ va_AO "java/lang/Object" U ∧ hx_AO .int U) ∧
  (va_Fw "java/util/ArrayList$Itr" yIt_hasNext yJ17_hasNext U ∧ va_Fw "java/util/ArrayList$Itr" yIt_next yJ17_next U) ∧
  (va_Dc U ∧ va_Mi "[Ljava/lang/Object;" (hG_m G) U) ∧ (∀ q ∈ hx_nc, va_Nc q.1 q.2 U) ∧
  (∀ own k tx, Cond.stringRef own k tx ∈ lw_tbl → ∃ a, vk_R own k tx a U) ∧
  va_Z "java/util/ArrayList" "DEFAULTCAPACITY_EMPTY_ELEMENTDATA" "[Ljava/lang/Object;" (.ref (hG_e G)) (hx_A G) U U.heap ∧
  (vx_Zq Bundle.tN "UNASSIGNED_STACK" Bundle.steD (hx_A G) U U.heap ∧ vx_Zq Bundle.tN "SUPPRESSED_SENTINEL" Bundle.listD (hx_A G) U U.heap) ∧
  (U.heap[hG_e G]? = some (vp_cell (hG_A G 13) (0, .inr (.inr (.inr (.inr (fun _ => none)))))) ∧ hG_e G < hG_b G ∧ hG_b G ≤ U.heap.size) ∧ hG_A G 13 = hG_A G 6
theorem hx_Nw_warm {w : Cond} (hw : hx_rd w = true) {s U : State} (hW : s.WarmedH U.vm) (h : va_Nw w s) : va_Nw w U := by
  cases w with
  | fieldLinkNest => exact va_Nw.warmF hW h
  | methodLinkNest => exact va_Nw.warmM hW h
  | castable => exact va_Nw.warmC hW h
  | declares => exact va_Nw.warmD hW h
  | _ => cases hw
theorem hx_rd_on {w : Cond} (hw : hx_rd w = true) : w.onTables = true := by
  cases w with
  | fieldLinkNest => rfl
  | methodLinkNest => rfl
  | castable => rfl
  | declares => rfl
  | _ => cases hw
theorem hx_RA.moved {G : hG} {u U : State} (hvm : u.vm.Alike U.vm) (h : hx_RA G u) : hx_RA G U := by
  intro t j hj
  obtain ⟨kA, h1, h2⟩ := h t j hj
  obtain ⟨k', hk', he⟩ := hvm.2.2 _ _ h1
  exact ⟨k', hk', by rw [he]; exact h2⟩
theorem hx_U.next {G : hG} {s U : State} {locs : List Loc} (h : hx_U G s) (hW : s.WarmedH U.vm) (hS : va_S (hx_A G) s.heap U.heap locs) : hx_U G U := by
  obtain ⟨h1, h2, h3, ⟨h4, h5, h6⟩, ⟨h7, h8⟩, ⟨h9, h10⟩, h11, h12, h13, ⟨h14, h15⟩, ⟨h16, h17, h18⟩, h19⟩ := h
  have hA := hW.alike
  refine ⟨va_K.moved hA h1, h2.moved hA, fun w hw hr => hx_Nw_warm hr hW (h3 w hw hr), ⟨va_AO.moved hA h4, va_AO.moved hA h5, h6.moved hA⟩, ⟨va_Fw.moved ⟨by decide, by decide⟩ hA h7, va_Fw.moved ⟨by decide, by decide⟩ hA h8⟩, ⟨va_Dc.moved hA h9, va_Mi.moved hA h10⟩, fun q hq => va_Nc.moved hA (h11 q hq), fun own k tx hm => ?_, va_Z.kept (va_Z.moved hA h13) hS.2.1, ⟨vx_Zq.kept (vx_Zq.moved hA h14) hS.2.1, vx_Zq.kept (vx_Zq.moved hA h15) hS.2.1⟩, ⟨?_, h17, Nat.le_trans h18 hS.1⟩, h19⟩
  · obtain ⟨a, ha⟩ := h12 own k tx hm
    exact ⟨a, vk_R.warm hW ha⟩
  · rw [hS.2.1 _ (Nat.lt_of_lt_of_le h17 h18) (fun q => absurd (show hG_b G ≤ hG_e G from q) (Nat.not_le.mpr h17))]
    exact h16
theorem hx_U.call {G : hG} {U : State} {g : JFrame} {mk : MethodId} {a : Array Value} (h : hx_U G U) : hx_U G (U.calling g mk a) := by
  obtain ⟨h1, h2, h3, ⟨h4, h5, h6⟩, ⟨h7, h8⟩, ⟨h9, h10⟩, h11, h12, h13, ⟨h14, h15⟩, h16, h19⟩ := h
  have hA : U.vm.Alike (U.calling g mk a).vm := Vm.Alike.refl U.vm
  refine ⟨va_K.moved hA h1, h2.moved hA, fun w hw hr => va_Nw.same (hx_rd_on hr) (u := U) rfl (h3 w hw hr), ⟨va_AO.moved hA h4, va_AO.moved hA h5, h6.moved hA⟩, ⟨va_Fw.moved ⟨by decide, by decide⟩ hA h7, va_Fw.moved ⟨by decide, by decide⟩ hA h8⟩, ⟨va_Dc.moved hA h9, va_Mi.moved hA h10⟩, fun q hq => va_Nc.moved hA (h11 q hq), fun own k tx hm => ?_, va_Z.moved hA h13, ⟨vx_Zq.moved hA h14, vx_Zq.moved hA h15⟩, h16, h19⟩
  obtain ⟨a', ha⟩ := h12 own k tx hm
  exact ⟨a', vk_R.same (u := U) rfl ha⟩
/-! reading and writing a world, over the heap -/
def hx_H (G : hG) (w : Hp) (s : State) (H : Heap) (locs : List Loc) : Prop := hx_P G w H ∧ va_S (hx_A G) s.heap H locs
theorem hx_at {G : hG} {w : Hp} {s : State} {H : Heap} {locs : List Loc} (hU : hx_U G s) (hH : hx_H G w s H locs) {a : Nat} {e : hE} (h : w a = some e) : va_at (hG_D G) hC (a, hx_e (hG_A G) e) H := by
  rcases hH.1.1 a e h with ⟨h1, h2⟩ | ⟨-, -, h3⟩
  · obtain ⟨-, -, -, -, -, -, -, -, -, -, ⟨h16, h17, h18⟩, -⟩ := hU
    subst h1; subst h2
    show H[hG_e G]? = _
    rw [hH.2.2.1 _ (Nat.lt_of_lt_of_le h17 h18) (fun q => absurd (show hG_b G ≤ hG_e G from q) (Nat.not_le.mpr h17))]
    exact h16
  · exact h3
theorem hx_one {G : hG} {w : Hp} {s : State} {H : Heap} {locs : List Loc} (hU : hx_U G s) (hH : hx_H G w s H locs) {a : Nat} {e : hE} (h : w a = some e) : va_P (hG_D G) hC [(a, hx_e (hG_A G) e)] H := by
  intro k q hq
  have hz : k < 1 := (List.getElem?_eq_some_iff.mp hq).1
  rw [show k = 0 by omega] at hq
  cases hq
  exact hx_at hU hH h
def hx_pk (G : hG) (w : Hp) (a : Nat) : Option (Nat × va_E) := match w a with
  | some e => if hx_wr e = true then some (a, hx_e (hG_A G) e) else none
  | none => none
def hx_L (G : hG) (w : Hp) (n : Nat) : va_W := (List.range n).filterMap (hx_pk G w)
theorem hx_pk_some {G : hG} {w : Hp} {a : Nat} {q : Nat × va_E} (h : hx_pk G w a = some q) : ∃ e, w a = some e ∧ hx_wr e = true ∧ q = (a, hx_e (hG_A G) e) := by
  unfold hx_pk at h
  cases hw : w a with
  | none => rw [hw] at h; cases h
  | some e =>
    rw [hw] at h
    by_cases hr : hx_wr e = true
    · simp only [hr, if_true] at h
      exact ⟨e, rfl, hr, (Option.some.inj h).symm⟩
    · simp only [hr, if_false] at h
      cases h
theorem hx_L_in {G : hG} {w : Hp} {n a : Nat} {e : hE} (h : w a = some e) (hr : hx_wr e = true) (hn : a < n) : ∃ q0 : Nat, (hx_L G w n)[q0]? = some (a, hx_e (hG_A G) e) := by
  refine List.mem_iff_getElem?.mp (List.mem_filterMap.mpr ⟨a, List.mem_range.mpr hn, ?_⟩)
  simp [hx_pk, h, hr]
theorem hx_L_of {G : hG} {w : Hp} {n k : Nat} {q : Nat × va_E} (h : (hx_L G w n)[k]? = some q) : ∃ e, w q.1 = some e ∧ hx_wr e = true ∧ q = (q.1, hx_e (hG_A G) e) ∧ q.1 < n := by
  obtain ⟨a, ha, hp⟩ := List.mem_filterMap.mp (List.mem_of_getElem? h)
  obtain ⟨e, h1, h2, h3⟩ := hx_pk_some hp
  subst h3
  exact ⟨e, h1, h2, rfl, List.mem_range.mp ha⟩
theorem hx_L_sort (G : hG) (w : Hp) (n : Nat) : (hx_L G w n).Pairwise (fun p q => p.1 < q.1) := by
  unfold hx_L
  rw [List.pairwise_filterMap]
  refine List.Pairwise.imp ?_ List.pairwise_lt_range
  intro x y hxy p hp q hq
  obtain ⟨_, -, -, h1⟩ := hx_pk_some hp
  obtain ⟨_, -, -, h2⟩ := hx_pk_some hq
  rw [h1, h2]
  exact hxy
theorem hx_L_inj {G : hG} {w : Hp} {n i j : Nat} {p q : Nat × va_E} (h1 : (hx_L G w n)[i]? = some p) (h2 : (hx_L G w n)[j]? = some q) (h : p.1 = q.1) : i = j := by
  obtain ⟨l1, e1⟩ := List.getElem?_eq_some_iff.mp h1
  obtain ⟨l2, e2⟩ := List.getElem?_eq_some_iff.mp h2
  have hs := List.pairwise_iff_getElem.mp (hx_L_sort G w n)
  rcases Nat.lt_trichotomy i j with z | z | z
  · have := hs i j l1 l2 z
    rw [e1, e2] at this
    omega
  · exact z
  · have := hs j i l2 l1 z
    rw [e1, e2] at this
    omega
theorem hx_LP {G : hG} {w : Hp} {s : State} {H : Heap} {locs : List Loc} (hU : hx_U G s) (hH : hx_H G w s H locs) (n : Nat) : va_P (hG_D G) hC (hx_L G w n) H := by
  intro k q hk
  obtain ⟨e, h1, -, h3, -⟩ := hx_L_of hk
  rw [h3]
  exact hx_at hU hH h1
theorem hx_LD {G : hG} {w : Hp} {s : State} {H : Heap} {locs : List Loc} (hU : hx_U G s) (hH : hx_H G w s H locs) (n : Nat) : va_D (hx_A G) (hx_L G w n) := by
  refine ⟨fun i j p q h1 h2 h => hx_L_inj h1 h2 h, fun k q hk => ?_⟩
  obtain ⟨e, h1, h2, -, -⟩ := hx_L_of hk
  rcases hH.1.1 _ e h1 with ⟨-, z⟩ | ⟨-, z, -⟩
  · subst z; cases h2
  · exact z
theorem hx_lt {G : hG} {w : Hp} {s : State} {H : Heap} {locs : List Loc} (hU : hx_U G s) (hH : hx_H G w s H locs) {a : Nat} {e : hE} (h : w a = some e) : a < H.size := (hx_at hU hH h).lt
theorem hx_ro {G : hG} {w : Hp} {s : State} {H : Heap} {locs : List Loc} (hU : hx_U G s) (hH : hx_H G w s H locs) {a : Nat} {e : hE} (h : w a = some e) (hr : hx_wr e = true) : a ≠ hG_e G := by
  intro z
  subst z
  rw [hH.1.2] at h
  cases h
  cases hr
/-- behind a write of the entry q0 -/
theorem hx_put {G : hG} {w : Hp} {s : State} {H H1 : Heap} {locs locs1 : List Loc} (hU : hx_U G s) (hH : hx_H G w s H locs) {a q0 : Nat} {e0 e1 : hE} (h : w a = some e0) (hr : hx_wr e0 = true) (hr1 : hx_wr e1 = true) {ve : va_E} (hve : ve = hx_e (hG_A G) e1) (hq : (hx_L G w H.size)[q0]? = some (a, hx_e (hG_A G) e0)) (hP : va_P (hG_D G) hC ((hx_L G w H.size).set q0 (a, ve)) H1) (hS : va_S (hx_A G) s.heap H1 locs1) : hx_H G (hu w a e1) s H1 locs1 := by
  subst hve
  have hl := (List.getElem?_eq_some_iff.mp hq).1
  refine ⟨⟨fun b e hb => ?_, ?_⟩, hS⟩
  · by_cases hba : b = a
    · subst hba
      rw [hu_s] at hb
      cases hb
      refine Or.inr ⟨hr1, ?_, hP q0 _ (List.getElem?_set_self hl)⟩
      rcases hH.1.1 _ _ h with ⟨-, z⟩ | ⟨-, z, -⟩
      · subst z; cases hr
      · exact z
    · rw [hu_n hba] at hb
      rcases hH.1.1 _ _ hb with z | ⟨z1, z2, z3⟩
      · exact Or.inl z
      · obtain ⟨k, hk⟩ := hx_L_in (G := G) hb z1 z3.lt
        refine Or.inr ⟨z1, z2, hP k _ ?_⟩
        rw [List.getElem?_set_ne (fun z => hba ?_)]
        · exact hk
        · subst z
          exact congrArg Prod.fst (Option.some.inj (hk.symm.trans hq))
  · rw [hu_n (fun z => hx_ro hU hH h hr z.symm)]
    exact hH.1.2
/-- behind a cell made -/
theorem hx_push {G : hG} {w : Hp} {s : State} {H H1 : Heap} {locs locs1 : List Loc} (hU : hx_U G s) (hH : hx_H G w s H locs) {e1 : hE} (hr1 : hx_wr e1 = true) (ho : ∀ q : Nat, q < H.size → H1[q]? = H[q]?) (hz : H.size ≤ H1.size) (hn : va_at (hG_D G) hC (H.size, hx_e (hG_A G) e1) H1) (hl : ∀ q ∈ locs1, q ∈ locs ∨ H.size ≤ q.base) : w H.size = none ∧ hx_H G (hu w H.size e1) s H1 locs1 := by
  have hnone : w H.size = none := by
    cases hw : w H.size with
    | none => rfl
    | some e => exact absurd (hx_lt hU hH hw) (Nat.lt_irrefl _)
  have hsz : s.heap.size ≤ H.size := hH.2.1
  have hbase : hG_b G ≤ s.heap.size := hU.2.2.2.2.2.2.2.2.2.2.1.2.2
  refine ⟨hnone, ⟨fun b e hb => ?_, ?_⟩, ⟨Nat.le_trans hsz hz, fun q h1 h2 => (ho q (Nat.lt_of_lt_of_le h1 hsz)).trans (hH.2.2.1 q h1 h2), fun q hq => ?_⟩⟩
  · by_cases hba : b = H.size
    · subst hba
      rw [hu_s] at hb
      cases hb
      exact Or.inr ⟨hr1, Nat.le_trans hbase hsz, hn⟩
    · rw [hu_n hba] at hb
      rcases hH.1.1 _ _ hb with z | ⟨z1, z2, z3⟩
      · exact Or.inl z
      · exact Or.inr ⟨z1, z2, z3.kept (ho b z3.lt)⟩
  · rw [hu_n]
    · exact hH.1.2
    · intro z
      rw [← z, hH.1.2] at hnone
      cases hnone
  · rcases hl q hq with z | z
    · exact hH.2.2.2 q z
    · exact Nat.le_trans hbase (Nat.le_trans hsz z)
