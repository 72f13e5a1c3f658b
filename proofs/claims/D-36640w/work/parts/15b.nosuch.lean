/-! throw new E(text) where E's own constructor calls the one above by another entry of its pool than 7 (java.util.NoSuchElementException: 13). The walk follows the library's for entry 7 (BundleOwnThrow, ctorThrowS) and the kit's vx_throwS; the chain of constructors above E is the library's. -/
set_option maxRecDepth 100000
def hy_at (own : String) (ic : Nat) (X : String) (ix : Nat) (rx : ByteArray) (Y : String) (r : List String) : List Cond :=
  Bundle.throwableAtoms ++ Bundle.throwableSAtoms ++ (Bundle.passSAtoms X Y ix rx ++ Bundle.chainSAtoms Y r) ++
  [.methodLink own ic (Bundle.initS X), .instantiable X 6, .castable X X, .selects X Bundle.tFill0 Bundle.tFill0, .selects X Bundle.tFill Bundle.tFill,
   .lays X Bundle.tN "cause" "Ljava/lang/Throwable;", .lays X Bundle.tN "stackTrace" Bundle.steD, .lays X Bundle.tN "suppressedExceptions" Bundle.listD, .lays X Bundle.tN "detailMessage" "Ljava/lang/String;",
   .isRef (.static Bundle.tN "UNASSIGNED_STACK" Bundle.steD), .isRef (.static Bundle.tN "SUPPRESSED_SENTINEL" Bundle.listD),
   .fieldLink Bundle.tN 198 Bundle.tN "backtrace" "Ljava/lang/Object;", .lays Bundle.tN Bundle.tN "backtrace" "Ljava/lang/Object;", .lays X Bundle.tN "backtrace" "Ljava/lang/Object;"]
section HXN
variable {p : Program} {l : Launch} {e : Env} {R : Room} {s : State} {m₀ : MethodId} {args : Array Value} {below : List Frame} {meth : Method} {c : Code} {W9 : State} {locs : List Loc} {cells slots : Nat}
set_option maxHeartbeats 4000000 in
theorem hy_ctor (X : Stand p l e R s m₀ args below meth c W9 locs cells slots) (hexec : p.tables.exec = Jvm.exec) (htr : e.platform.stackTraces = false) {own cls Y : String} {r : List String} {ic ix : Nat} {rx : ByteArray}
    (x0 : decode rx 0 = .ok (.aload_n 0, 1)) (x1 : decode rx 1 = .ok (.aload_n 1, 1)) (x2 : decode rx 2 = .ok (.invokespecial ix, 3)) (x5 : decode rx 5 = .ok (.return_, 1))
    (hown : s.vm.findClass own = some m₀.cls) (hcls : Bundle.fit cls = true) (hY : Bundle.fit Y = true) (hnames : ∀ n ∈ r, Bundle.fit n = true)
    (h : ∀ a ∈ hy_at own ic cls ix rx Y r, a.before args s = true)
    (hlocs : ∀ x ∈ locs, ∀ cv, s.heap[x.base]? = some cv → cv.vm.isStatics = false)
    {a : Addr} {cX : ClassId} {kX : Class} (hfoundX : s.vm.findClass cls = some cX) (hkX : s.vm.classes[cX]? = some kX) (hcell : W9.heap[a]? = some (freshCell cX kX)) (hnew : s.heap.size ≤ a)
    {msg : Value} (hmsg : msg.isRef = true)
    {g : JFrame} (hg : g.method = m₀) (hsize : g.locals.size = c.maxLocals) (hlocked : g.locked = none) (hentered : g.entered = []) {rest : List Value} (hstack : g.stack = msg :: .ref a :: .ref a :: rest)
    (hd6 : decode c.code g.pc = .ok (.invokespecial ic, 3)) (hd9 : decode c.code (g.pc + 3) = .ok (.athrow, 1)) (hout : ∀ x ∈ c.exceptionTable.toList, covers x (g.pc + 3) = false)
    (hRframes : (Y :: r).length + 3 < R.frames) (hRlocals : 2 * g.monitorRoom + ((Value.ref a :: rest).map fun v => v.category).sum + (13 * ((Y :: r).length + 1) + 42) ≤ R.locals) (hlocks : meth.locks = false) :
    ∃ U : State, Steps p.tables e below (W9.setTop g) U ∧ U.status = .running ∧ Ended U below (.threw a) ∧ s.WarmedH U.vm ∧ s.sameButNew ({ U with vm := s.vm } : State) locs cells slots ∧
      ∃ ce : Cell, U.heap[a]? = some ce ∧ ce.vm = .none ∧ ce.cls = cX := by
  have howns : e.platform.frameOwnsMonitors = true := by rw [X.admits.platform]
  have hfin : e.platform.finalization = false := by rw [X.admits.platform]
  have hpl : e.platform.magicAccessors = ({} : Platform).magicAccessors := by rw [X.admits.platform]
  have a' : ∀ x, x ∈ hy_at own ic cls ix rx Y r → x.holds args s none s [] = true := fun x hx => h x hx
  obtain ⟨T, Z0, L, -, Yt⟩ := ThrowableC.of_atoms (args := args) howns hfin hpl (fun x hx => h x (by simp [hy_at, hx]))
  obtain ⟨Z, M, LZ, LM, hnZ⟩ := Init0T.ofS_atoms (args := args) hpl L Yt (fun x hx => h x (by simp [hy_at, hx]))
  obtain ⟨P1, L1, hP1m, hP1s⟩ := PassC.ofS_atoms (args := args) (s := s) hpl (X := cls) (Y := Y) (Bundle.fit_spec hcls).1 (Bundle.fit_spec hY).2 x0 x1 x2 x5 (fun c hc => h c (by simp [hy_at, hc]))
  obtain ⟨P', Ps', hlen', L', hL', hm', hsup, hpass⟩ := Bundle.chainS (args := args) hpl hnZ r Y hY hnames (fun x hx => h x (by simp [hy_at, hx]))
  have hlink1 : P1.sup = firstOf (Z.m T.toThrowableT) ((P' :: Ps').map (·.toPassT)) := Option.some.inj (hP1s.symm.trans hm')
  have hlink : PassesOn (Z.m T.toThrowableT) ((P' :: Ps').map (·.toPassT)) := ⟨hsup, hpass⟩
  have hL : ∀ P, P ∈ P' :: Ps' → P.LinksS e.platform s := by
    intro Q hQ
    rcases List.mem_cons.mp hQ with rfl | hQ
    · exact L'
    · exact hL' Q hQ
  have hlen : (P' :: Ps').length = (Y :: r).length := by simp [hlen']
  have hfound : s.vm.findClass cls = some P1.m.cls := findClass_of_methodNamed hP1m
  cases Option.some.inj (hfoundX.symm.trans hfound)
  obtain ⟨c1, kX', hc1, hk, hord, -, -, hn6⟩ := Cond.instantiable_spec (a' (.instantiable cls 6) (by simp [hy_at]))
  cases Option.some.inj (hc1.symm.trans hfound)
  cases Option.some.inj (hkX.symm.trans hk)
  have hsel0 : selectMethod e.platform s.vm P1.m.cls T.fill0 = .method T.fill0 := by
    obtain ⟨c2, r2, m2, q1, q2, q3, q4, -⟩ := Cond.selects_spec (a' (.selects cls Bundle.tFill0 Bundle.tFill0) (by simp [hy_at]))
    cases Option.some.inj (q1.symm.trans hfound)
    cases Option.some.inj (q2.symm.trans (State.methodFound?_of_named Yt.fill0 (by decide)))
    cases Option.some.inj (q3.symm.trans Yt.fill0)
    rw [Launch.admits_selectMethod X.admits]; exact q4
  have hselF : selectMethod e.platform s.vm P1.m.cls T.fill = .method T.fill := by
    obtain ⟨c2, r2, m2, q1, q2, q3, q4, -⟩ := Cond.selects_spec (a' (.selects cls Bundle.tFill Bundle.tFill) (by simp [hy_at]))
    cases Option.some.inj (q1.symm.trans hfound)
    cases Option.some.inj (q2.symm.trans (State.methodFound?_of_named Yt.fill (by decide)))
    cases Option.some.inj (q3.symm.trans Yt.fill)
    rw [Launch.admits_selectMethod X.admits]; exact q4
  obtain ⟨cellS0, hcS0, hiss⟩ := Yt.statics
  obtain ⟨u0, hu0⟩ := Cond.staticRefV Yt.unassigned L.unassignedStatic L.statics hcS0 hiss (a' (.isRef (.static Bundle.tN "UNASSIGNED_STACK" Bundle.steD)) (by simp [hy_at]))
  obtain ⟨sen, hsen⟩ := Cond.staticRefV Yt.sentinel L.sentinelStatic L.statics hcS0 hiss (a' (.isRef (.static Bundle.tN "SUPPRESSED_SENTINEL" Bundle.listD)) (by simp [hy_at]))
  obtain ⟨ci198, i198, fB, hk198, hg198, ha198, hsB, -, hnB, htB, hffB⟩ := Cond.ownField (t := .object "java/lang/Object") Yt.found L.cls (by decide +kernel) (a' (.fieldLink Bundle.tN 198 Bundle.tN "backtrace" "Ljava/lang/Object;") (by simp [hy_at])) (a' (.lays Bundle.tN Bundle.tN "backtrace" "Ljava/lang/Object;") (by simp [hy_at])) e.platform hpl
  obtain ⟨cellS, hcS', heS, -, hkeep⟩ := X.same.2.2.2.2.2 T.aS cellS0 hcS0
  have hcellS : W9.heap[T.aS]? = some cellS := hcS'
  have hout' : ∀ i, (⟨T.aS, i⟩ : Loc) ∉ locs := fun i hmem => by
    have := hlocs _ hmem cellS0 hcS0
    rw [hiss] at this; cases this
  have hknownS : cellS.vm ≠ .unknown := by
    rw [heS]; intro hu
    rw [show cellS0.vm = .unknown from hu] at hiss
    cases hiss
  have hneS : T.aS ≠ a := Nat.ne_of_lt (Nat.lt_of_lt_of_le (Array.getElem?_eq_some_iff.mp hcS0).1 hnew)
  obtain ⟨iM, hffM⟩ := Yt.msg
  obtain ⟨tyC, dC, hdC, hdnC⟩ := Cond.laysAt hfound hk Yt.cause (a' (.lays cls Bundle.tN "cause" "Ljava/lang/Throwable;") (by simp [hy_at]))
  obtain ⟨tyS, dS, hdS, hdnS⟩ := Cond.laysAt hfound hk Yt.stack (a' (.lays cls Bundle.tN "stackTrace" Bundle.steD) (by simp [hy_at]))
  obtain ⟨tyP, dP, hdP, hdnP⟩ := Cond.laysAt hfound hk Yt.supp (a' (.lays cls Bundle.tN "suppressedExceptions" Bundle.listD) (by simp [hy_at]))
  obtain ⟨tyM, dM, hdM, hdnM⟩ := Cond.laysAt hfound hk hffM (a' (.lays cls Bundle.tN "detailMessage" "Ljava/lang/String;") (by simp [hy_at]))
  obtain ⟨tyB, dB, hdB, hdnB⟩ := Cond.laysAt hfound hk hffB (a' (.lays cls Bundle.tN "backtrace" "Ljava/lang/Object;") (by simp [hy_at]))
  have bC := Cond.laysApart hdB hdC hdnB hdnC (by rw [hnB, Yt.causeName]; decide)
  have bS := Cond.laysApart hdB hdS hdnB hdnS (by rw [hnB, Yt.stackName]; decide)
  have bP := Cond.laysApart hdB hdP hdnB hdnP (by rw [hnB, Yt.suppName]; decide)
  have hskip : SkipFacts T e.platform s (fun u => u) u0 ((preparedCellV T.toThrowableT (freshCell P1.m.cls kX) a u0 sen).withEntry W9.cur) :=
    ⟨{ ci198 := ci198, i198 := i198, fBack := fB }, ⟨hk198, hg198, ha198, hsB⟩, by
      have := fresh_default (c := P1.m.cls) tyB
      rw [htB] at this
      simpa [preparedCellV, Cell.setSlot, Cell.withEntry, Array.getElem?_setIfInBounds, bC, bS, bP, bC.symm, bS.symm, bP.symm, defaultValue] using this, fun _ _ => rfl⟩
  obtain ⟨tm, methC, cdC, kC, vm₁, hnC, -, -, -, -, -, -, -, hW₁, st1⟩ := Steps.initColdS (tb := p.tables) (e := e) (below := below) (s := s) (U := W9) X.here hexec X.warmed hpl hown (t := Bundle.initS cls) rfl rfl (Bundle.fit_spec hcls).2
    (a' (.methodLink own ic (Bundle.initS cls)) (by simp [hy_at])) (h (.instanceMethod (Bundle.initS cls)) (by simp [hy_at, Bundle.passSAtoms])) (bytes := rx) (maxL := 2) (h (.code (Bundle.initS cls) rx 2 none) (by simp [hy_at, Bundle.passSAtoms]))
    (f := g) hg (a := a) (msg := msg) (rest := .ref a :: rest) hstack hd6
  cases Option.some.inj (hnC.symm.trans hP1m)
  have X₁ := X.noted hW₁
  obtain ⟨vm₂, X₂, st2⟩ := X₁.ctorMessageOffV hexec (g := { g with stack := .ref a :: rest }) hg hsize T L Z LZ M LM (P1 :: P' :: Ps')
    (fun P hP => by rcases List.mem_cons.mp hP with rfl | hP; exact L1; exact hL P hP) ⟨hlink1, hlink⟩ (u0 := u0) (sen := sen) (self := a) hmsg (cell := freshCell P1.m.cls kX) (cellS := cellS)
    hcell (fun _ => by simp) (by simp) rfl rfl hsel0 hselF hcellS hneS hknownS (by rw [hkeep _ (hout' _)]; exact hu0) (by rw [hkeep _ (hout' _)]; exact hsen)
    (Takes.of_laid hk hord tyC (by rw [Yt.causeType]; rfl)) (Takes.of_laid hk hord tyS (by rw [Yt.stackType]; exact fits_refV_array _ u0)) (Takes.of_laid hk hord tyP (by rw [Yt.suppType]; exact fits_refV_object _ sen))
    (Takes.of_laid hk hord tyM (by rw [Yt.msgType]; exact fits_refV_object _ ⟨msg, hmsg⟩)) Yt.objLocals hskip htr [] hd6
    (by simp only [List.length_cons] at hlen hRframes ⊢; omega) (by simp only [List.length_cons] at hlen hRlocals ⊢; rw [hlen]; exact hRlocals)
  obtain ⟨hwalk, hrun, hended, hWU, hsame⟩ := X₂.athrowLeaves hexec (g := { g with stack := .ref a :: rest, pc := g.pc + 3 }) hg hlocked hentered hout (a := a) (rest := rest) rfl hd9
  have hlt : a < ((W9.setVm vm₁).setVm vm₂).heap.size := (Array.getElem?_eq_some_iff.mp hcell).1
  have hU := heapAt_setCell_self (s := (W9.setVm vm₁).setVm vm₂) (plainBareV T.toThrowableT (freshCell P1.m.cls kX) a u0 sen msg) hlt
  refine ⟨_, st1 _ (fun acts => ?_), hrun, hended, hWU, hsame.weaken (fun y hy hlt' => ?_) (Nat.le_refl _) (Nat.le_refl _), _, hU, ?_, ?_⟩
  · rw [doInvoke_state]
    exact st2 _ hwalk
  · rcases List.mem_append.mp hy with h1 | h1
    · exact h1
    · exfalso
      have hb : y.base = a := by
        simp only [List.mem_cons, List.not_mem_nil, or_false] at h1
        rcases h1 with rfl | rfl | rfl | rfl | rfl <;> rfl
      rw [hb] at hlt'
      exact absurd hlt' (Nat.not_lt.mpr hnew)
  · simp [plainBareV, preparedCellV, Cell.setSlot, freshCell]
  · simp [plainBareV, preparedCellV, Cell.setSlot, freshCell]
end HXN
section HXN2
variable {p : Program} {l : Launch} {e : Env} {R : Room} {s : State} {m : MethodId} {args : Array Value} {below : List Frame} {meth : Method} {c : Code} {H : Heap} {locs : List Loc} {cells slots mc ms : Nat}
variable {cc : ByteArray} {pc nL : Nat} {ls : Array Slot} {rest : List Value} {own : String} {G : hG} {w : Hp} {X : Hp → String → Prop}
set_option maxHeartbeats 4000000 in
theorem hx_throwX (C0 : CallFix p m c cc nL s args lw_all own) (hU : hx_U G s) (hH : hx_H G w s H locs) (hl : l.stackTraces = false) {cls text Y : String} {r : List String} {ik is ic ix : Nat} {rx : ByteArray} {Qc : Array Value → State → Outcome → State → Prop} (hsize : ls.size = nL) (hcls : Bundle.fit cls = true) (hY : Bundle.fit Y = true) (hnames : ∀ n ∈ r, Bundle.fit n = true)
    (x0 : decode rx 0 = .ok (.aload_n 0, 1)) (x1 : decode rx 1 = .ok (.aload_n 1, 1)) (x2 : decode rx 2 = .ok (.invokespecial ix, 3)) (x5 : decode rx 5 = .ok (.return_, 1))
    (hk : Cond.classLink own ik cls ∈ lw_all) (hini : Cond.initialized cls ∈ lw_all) (hstr : Cond.stringRef own is text ∈ lw_tbl) (hat : ∀ w ∈ (hy_at own ic cls ix rx Y r).filter vx_no, w ∈ lw_all ∨ (w ∈ lw_tbl ∧ hx_rd w = true))
    (hgood : ∀ w ∈ Cond.classLink own ik cls :: Cond.initialized cls :: (hy_at own ic cls ix rx Y r).filter vx_no, vx_ot w = true)
    (d0 : decode cc pc = .ok (.new ik, 3)) (d3 : decode cc (pc + 3) = .ok (.dup, 1)) (d4 : decode cc (pc + 4) = .ok (.ldc is, 2)) (d6 : decode cc (pc + 6) = .ok (.invokespecial ic, 3)) (d9 : decode cc (pc + 9) = .ok (.athrow, 1))
    (hex : ∀ x ∈ c.exceptionTable.toList, False) (hlocks : meth.locks = false) (h : X w cls)
    (hRframes : (Y :: r).length + 3 < R.frames) (hRlocals : (rest.map fun v => v.category).sum + (13 * ((Y :: r).length + 1) + 43) ≤ R.locals) (hRcells : cells + 1 ≤ R.cells) (hRslots : slots + 6 ≤ R.slots) (hc : cells + 1 ≤ mc) (hs : slots + 6 ≤ ms) :
    W p l e R s m args below meth c H locs cells slots (vx_MQ below Qc (hx_XC G X) args s mc ms (hx_A G)) (F0 m pc ls rest) := by
  obtain ⟨sa, hsa⟩ := hU.2.2.2.2.2.2.2.1 _ _ _ hstr
  have hexec := C0.1
  have hb := C0.2.1
  have wd : ∀ w9, w9 ∈ lw_all ∨ (w9 ∈ lw_tbl ∧ hx_rd w9 = true) → w9.before args s = true := by
    rintro w9 (z | ⟨z1, z2⟩)
    · exact C0.2.2.2.2 _ z
    · exact va_Nw.use (hx_rd_on z2) (hU.2.2.1 _ z1 z2)
  intro T hT Xs
  have htr : e.platform.stackTraces = false := (show e.platform.stackTraces = l.stackTraces by rw [Xs.admits.platform]).trans hl
  have Y9 := vx_rebase Xs (R' := { frames := R.frames, locals := R.locals, cells := 1, slots := 6 }) (Nat.le_refl _) (Nat.le_refl _) hRcells hRslots
  obtain ⟨s', hA⟩ : ∃ z, z = (T.setVm s.vm).setFrames (.invoking m args :: below) := ⟨_, rfl⟩
  rw [← hA] at Y9
  have hvm : s'.vm = s.vm := by rw [hA]; rfl
  have hhp : s'.heap = H := by rw [hA]; exact hT
  have hW0 : s.WarmedH s'.vm := by rw [hvm]; exact State.WarmedH.refl s
  have hat' : ∀ w ∈ (hy_at own ic cls ix rx Y r).filter vx_no, w.before args s' = true := fun w hw => vx_ot_at hW0 hvm.symm (hgood w (List.mem_cons_of_mem _ (List.mem_cons_of_mem _ hw))) (wd _ (hat w hw))
  have hk' : (Cond.classLink own ik cls).before args s' = true := vx_ot_at hW0 hvm.symm (hgood _ List.mem_cons_self) (C0.2.2.2.2 _ hk)
  have hini' : (Cond.initialized cls).before args s' = true := vx_ot_at hW0 hvm.symm (hgood _ (List.mem_cons_of_mem _ List.mem_cons_self)) (C0.2.2.2.2 _ hini)
  have hU' : vx_Zq Bundle.tN "UNASSIGNED_STACK" Bundle.steD (hx_A G) s' s'.heap := by rw [hhp]; exact vx_Zq.moved hW0.alike (hU.2.2.2.2.2.2.2.2.2.1.1.kept hH.2.2.1)
  have hN' : vx_Zq Bundle.tN "SUPPRESSED_SENTINEL" Bundle.listD (hx_A G) s' s'.heap := by rw [hhp]; exact vx_Zq.moved hW0.alike (hU.2.2.2.2.2.2.2.2.2.1.2.kept hH.2.2.1)
  have hw9 : ∀ w ∈ hy_at own ic cls ix rx Y r, w.before args s' = true := vx_own hat' (vx_isRefq hU'.1) (vx_isRefq hN'.1) hU'.2.word hN'.2.word
  have hown' : s'.vm.findClass own = some m.cls := by rw [hvm]; exact C0.2.2.2.1
  have hins : (Cond.instantiable cls 6).before args s' = true := hw9 _ (by simp [hy_at])
  obtain ⟨vm₁, cX, kX, hfX, hkX, -, -, X₁, st1⟩ := Y9.newCold hexec (own := own) (C := cls) (index := ik) (n := 6) hown' hk' hins hini'
    (g := F0 m pc ls rest) rfl (by rw [hb]; exact d0) (Nat.le_refl _) (Nat.le_refl _)
  generalize hT1 : (T.setVm vm₁).pushCell { cls := cX, slots := kX.instanceTypes.map defaultValue, vm := .none } = T1 at X₁ st1
  have hcat : (Value.ref T.heap.size).category = 1 := rfl
  have hcellA : T1.heap[T.heap.size]? = some (freshCell cX kX) := by rw [← hT1]; exact State.heap_pushCell_size _ _
  have d3' : decode c.code (pc + 3) = .ok (.dup, 1) := by rw [hb]; exact d3
  have d4' : decode c.code (pc + 4) = .ok (.ldc is, 2) := by rw [hb]; exact d4
  have hstr' : vk_R own is text sa s' := vk_R.warm hW0 hsa
  obtain ⟨U, hsteps, hrun, hend, hW, hsame, ce, hce, hcv, hcc⟩ := hy_ctor X₁ hexec htr (own := own) (cls := cls) (Y := Y) (r := r) (ic := ic) x0 x1 x2 x5 hown' hcls hY hnames hw9 (fun x hx => nomatch hx) hfX hkX hcellA (by rw [hhp, hT]; exact Nat.le_refl _) (msg := .ref sa) rfl
    (g := { method := m, pc := pc + 6, locals := ls, stack := .ref sa :: .ref T.heap.size :: .ref T.heap.size :: rest, locked := none }) rfl (hsize.trans C0.2.2.1.symm) rfl rfl (rest := rest) rfl
    (by rw [hb]; exact d6) (by rw [hb]; exact d9) (fun x hx => (hex x hx).elim) hRframes (by simp only [List.map_cons, List.sum_cons, hcat]; omega) hlocks
  obtain ⟨f1, f2⟩ := vx_frame hsame
  rw [hhp] at f1 f2
  have hWs : s.WarmedH U.vm := State.WarmedH.trans hW0 hW
  have hcl : s.vm.findClass cls = some ce.cls := by
    rw [hcc, ← hvm]
    exact hfX
  have hall : s.sameButNew ({ U with vm := s.vm } : State) locs mc ms := by
    subst hA
    obtain ⟨e1, e2⟩ := hsame
    rw [State.setFrames_setFrames] at e1
    have h2 : (T.setVm s.vm).sameButNew ({ U with vm := s.vm } : State) [] (0 + 1) (0 + 6) := ⟨e1, e2⟩
    have h3 := Xs.same.trans h2
    rw [List.append_nil] at h3
    exact h3.mono hc hs
  have ho : ∀ q : Nat, q < H.size → U.heap[q]? = H[q]? := fun q hq => f2 q hq (fun z hz => nomatch hz)
  refine ⟨U, ?_, .threw T.heap.size, hrun, hend, Or.inr ⟨T.heap.size, rfl, cls, ce, locs, ⟨w, trivial, ⟨h, hx_kept hU hH ho⟩, Nat.le_trans hH.2.1 f1, fun q h1 h2 => (ho q (Nat.lt_of_lt_of_le h1 hH.2.1)).trans (hH.2.2.1 q h1 h2)⟩, hce, hcv, hcl, hWs, hall, hH.2.2.2⟩⟩
  refine st1 _ ?_
  show Steps p.tables e below (T1.setTop { method := m, pc := pc + 3, locals := ls, stack := .ref T.heap.size :: rest, locked := none }) _
  jvm_step X₁.here [X₁.here.top, hexec, d3', Value.category]
  exact X₁.ldcString hexec (own := own) (text := text) (index := is) (a := sa) hown' hstr'.1 hstr'.2
    (g := { method := m, pc := pc + 4, locals := ls, stack := .ref T.heap.size :: .ref T.heap.size :: rest, locked := none }) rfl d4' _ hsteps
end HXN2
