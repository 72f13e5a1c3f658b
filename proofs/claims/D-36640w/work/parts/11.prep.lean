/-! small things that the printed walks ask for -/
set_option maxRecDepth 100000
def gd (c k : Prop) : Prop := c ∧ k
theorem hx_ni {x y : Int32} (h : ¬ x = y) {k : Int} (hk : y.toInt = k) : ¬ x.toInt = k := fun q => h (Int32.toInt_inj.mp (q.trans hk.symm))
/-- what a call through an interface asks: va_cwF n hts (lw_F ..) -/
theorem lw_F {own : String} {idx : Nat} {C : String} {x y : MethodName} {b : ByteArray} {L : Nat} {r : Option FieldType} (h1 : Cond.methodLink own idx x ∈ lw_all) (h2 : Cond.selects C x y ∈ lw_all) (h3 : Cond.instanceMethod y ∈ lw_all) (h4 : Cond.initialized y.cls ∈ lw_all) (h5 : Cond.code y b L r ∈ lw_all) : GoodIn lw_all (va_wsF own idx C x y (ws_ y b L r)) := by
  refine lw_app ?_ (lw_meth h5)
  intro w hw
  simp only [List.mem_cons, List.not_mem_nil, or_false] at hw
  rcases hw with e | e | e | e
  · rw [e]; exact h1
  · rw [e]; exact h2
  · rw [e]; exact h3
  · rw [e]; exact h4
abbrev fsX1 : List Value := [.int 0, .int 0, .int 0, .null, .null, .null, .null, .null, .null, .null]
theorem nfX1 : ∀ j, j < 10 → defaultValue (tyX1 j) = vp_V fsX1 j := by decide +kernel
abbrev fsX2 : List Value := [.null, .null, .null, .int 0]
theorem nfX2 : ∀ j, j < 4 → defaultValue (tyX2 j) = vp_V fsX2 j := by decide +kernel
abbrev fsX3 : List Value := [.int 0, .null, .null, .null, .null, .int 0, .int 0, .int 0, .int 0, .null, .int 0]
theorem nfX3 : ∀ j, j < 11 → defaultValue (tyX3 j) = vp_V fsX3 j := by decide +kernel
abbrev fsX4 : List Value := [.int 0, .int 0, .int 0, .int 0, .null, .null, .null, .null, .null, .null, .null, .null, .null, .null, .null, .null, .null, .null, .null, .null, .null, .null, .null, .null, .int 0, .null, .long 0]
theorem nfX4 : ∀ j, j < 27 → defaultValue (tyX4 j) = vp_V fsX4 j := by decide +kernel
abbrev fsX5 : List Value := [.int 0, .int 0, .int 0, .int 0, .null, .int 0, .int 0]
theorem nfX5 : ∀ j, j < 7 → defaultValue (tyX5 j) = vp_V fsX5 j := by decide +kernel
abbrev fsX6 : List Value := [.int 0, .int 0, .int 0, .int 0, .int 0]
theorem nfX6 : ∀ j, j < 5 → defaultValue (tyX6 j) = vp_V fsX6 j := by decide +kernel
abbrev fsX7 : List Value := [.int 0, .int 0, .int 0, .int 0, .int 0, .int 0, .null, .int 0, .int 0, .int 0]
theorem nfX7 : ∀ j, j < 10 → defaultValue (tyX7 j) = vp_V fsX7 j := by decide +kernel
abbrev fsJ2 : List Value := [.int 0, .null, .int 0]
theorem nfJ2 : ∀ j, j < 3 → defaultValue (tyJ2 j) = vp_V fsJ2 j := by decide +kernel
abbrev fsJ17 : List Value := [.int 0, .int 0, .int 0, .null]
theorem nfJ17 : ∀ j, j < 4 → defaultValue (tyJ17 j) = vp_V fsJ17 j := by decide +kernel
theorem hx_ofWF {l : Launch} {y : MethodName} {ws ws' : List Cond} {rm : Room} {Pc : Array Value → State → Prop} {Qc : Array Value → State → Outcome → State → Prop} {mc ms : Nat} {free : Addr → Prop} {cc : ByteArray} {maxL : Nat} {ret : Option FieldType}
    (hy : plainFor y = true) (hw : ws = Cond.code y cc maxL ret :: ws')
    (body : ∀ p e s m args below meth c s₁, BodyLoose p l y (headSpec ws rm) cc maxL ret e s m args below meth c s₁ → c.maxLocals = maxL → Pc args s →
      W p l e (headSpec ws rm).room s m args below meth c s.heap [] 0 0 (MQ below Qc args s mc ms free) (entryFrame m args maxL)) : Met l y ws rm Pc Qc mc ms free := by
  refine MetFree.of_bodySF (code := cc) (maxLocals := maxL) (ret := ret) hy ?_ ?_
  · intro args s m h hn
    obtain ⟨meth, c, h1, h2, h3, h4, h5, h6, -, -⟩ := Cond.code_spec hn (atoms_spec (ws := ws) h _ (by rw [hw]; exact List.mem_cons_self))
    exact ⟨meth, c, h1, h2, h3, h4, h5, h6⟩
  · intro p e s m args below meth c s₁ B hml hP _
    have hh0 : s₁.heap = s.heap := by rw [B.state]; rfl
    obtain ⟨t, a1, o, b1, b2, b3⟩ := body p e s m args below meth c s₁ B hml hP s₁ hh0 (Stand.of_body B)
    exact ⟨t, o, a1, b1, b2, ⟨b3.1, b3.2⟩⟩
