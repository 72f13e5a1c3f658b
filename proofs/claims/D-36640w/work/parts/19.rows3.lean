/-! an array's clone(), and a static call over a deep stack -/
set_option maxRecDepth 100000
section HX19
variable {p : Program} {l : Launch} {e : Env} {R : Room} {s : State} {m : MethodId} {args : Array Value} {below : List Frame} {meth : Method} {c : Code} {H : Heap} {locs : List Loc} {cells slots : Nat} {Q : State → Prop}
variable {cc : ByteArray} {pc nL : Nat} {ls : Array Slot} {rest st0 : List Value} {own : String} {G : hG} {w : Hp} {a : Nat}
theorem hx_clI (C0 : CallFix p m c cc nL s args lw_all own) (hU : hx_U G s) (hH : hx_H G w s H locs) (hml : nL = ls.size) {index : Nat} (hlink : Cond.methodLink own index ⟨"[I", "clone", "()Ljava/lang/Object;"⟩ ∈ lw_all) {B : Nat} {cont : Hp → Nat → Prop} (h : clI w a B cont)
    (hframes : 1 ≤ R.frames) (hlocals : (rest.map fun v => v.category).sum + 14 ≤ R.locals) (hcells : cells + 1 ≤ R.cells) (hslots : slots + B ≤ R.slots) (hdg : decode cc pc = .ok (.invokevirtual index, 3))
    (kk : ∀ (a : Nat) (w : Hp) (H : Heap) (locs : List Loc), hx_H G w s H locs → cont w a → W p l e R s m args below meth c H locs (cells + 1) (slots + B) Q (F0 m (pc + 3) ls (va_rf (some a) :: rest))) : W p l e R s m args below meth c H locs cells slots Q (F0 m pc ls (va_rf (some a) :: rest)) := by
  obtain ⟨n, f, h1, h2, h3⟩ := h
  obtain ⟨q0, hq0⟩ := hx_L_in (G := G) h1 rfl (hx_lt hU hH h1)
  refine va_clone C0.1 C0.2.1 (C0.2.2.1.trans hml) C0.2.2.2.1 (C0.2.2.2.2 _ hlink) (C0.2.2.2.2 _ q1349) (C0.2.2.2.2 _ q1350) (C0.2.2.2.2 _ q1351) (C0.2.2.2.2 _ q1352) (hU.2.2.1 _ q1353 rfl) hU.1 (hx_LP hU hH H.size) (hx_LD hU hH H.size) hH.2
    (fun q hq => Nat.le_trans hU.2.2.2.2.2.2.2.2.2.2.1.2.2 hq) q0 0 hq0 (hTy_at (hG_A G) (by omega)) (va_nm_int (hU.1.2 0 _ (hTy_at (hG_A G) (by omega))).2) (va_fit (fun i _ => rfl)) hframes hlocals hcells (Nat.le_trans (Nat.add_le_add_left h2 _) hslots) hdg (fun q H1 _ hP hD hS => ?_)
  have hl9 : (hx_L G w H.size).length < (hx_L G w H.size ++ [(q, (Sum.inl (hG_A G 0, (n, .inl f)) : va_E))]).length := by simp
  have hlast : (hx_L G w H.size ++ [(q, (Sum.inl (hG_A G 0, (n, .inl f)) : va_E))])[(hx_L G w H.size).length]? = some (q, .inl (hG_A G 0, (n, .inl f))) := by simp
  have hin : ∀ (k : Nat) (y : Nat × va_E), (hx_L G w H.size)[k]? = some y → (hx_L G w H.size ++ [(q, (Sum.inl (hG_A G 0, (n, .inl f)) : va_E))])[k]? = some y := fun k y hy => by
    rw [List.getElem?_append_left (List.getElem?_eq_some_iff.mp hy).1]; exact hy
  have hAq : hG_b G ≤ q := hD.2 _ _ hlast
  have hqe : q ≠ hG_e G := fun z => by
    have := hU.2.2.2.2.2.2.2.2.2.2.1.2.1
    omega
  have hnone : w q = none := by
    cases hw : w q with
    | none => rfl
    | some e9 =>
      rcases hH.1.1 _ _ hw with ⟨z, -⟩ | ⟨z1, z2, z3⟩
      · exact absurd z hqe
      · obtain ⟨k, hk⟩ := hx_L_in (G := G) hw z1 z3.lt
        have := hD.1 _ _ _ _ (hin _ _ hk) hlast rfl
        have h8 := (List.getElem?_eq_some_iff.mp hk).1
        omega
  refine W.widen (Nat.le_refl _) (Nat.add_le_add_left h2 _) (kk q (hu w q (.inl (0, n, .inl f))) H1 locs ⟨⟨fun b e9 hb => ?_, ?_⟩, hS⟩ (h3 q hnone))
  · by_cases hba : b = q
    · subst hba
      rw [hu_s] at hb
      cases hb
      exact Or.inr ⟨rfl, hAq, hP _ _ hlast⟩
    · rw [hu_n hba] at hb
      rcases hH.1.1 _ _ hb with z | ⟨z1, z2, z3⟩
      · exact Or.inl z
      · obtain ⟨k, hk⟩ := hx_L_in (G := G) hb z1 z3.lt
        exact Or.inr ⟨z1, z2, hP k _ (hin _ _ hk)⟩
  · rw [hu_n (fun z => hqe z.symm)]
    exact hH.1.2
theorem hy_runSW {y : MethodName} {ws : List Cond} {rm : Room} {Pc : Array Value → State → Prop} {Qc : Array Value → State → Outcome → State → Prop} {mc ms n index maxL : Nat} {free : Addr → Prop} {bytes : ByteArray} {ret : Option FieldType} {As : List Value} {g : JFrame}
    (S : CallFix p m c cc nL s args lw_all own) (hM : Met l y ws rm Pc Qc mc ms free) (cw : CallB R s args own index y bytes maxL ret ws rm mc ms n ∧ (Cond.static y).before args s = true) (hlo : 24 + (maxL + 11) + rm.locals ≤ R.locals) (hp : PreS s H Pc As)
    (hg : g.method = m) (hn : As.length = n) (hsize : g.locals.size = nL) (hstack : g.stack = As.reverse ++ rest) (hW : 2 * g.monitorRoom + (rest.map fun v => v.category).sum ≤ 24) (hdg : decode cc g.pc = .ok (.invokestatic index, 3)) (hf : cells + mc ≤ R.cells ∧ slots + ms ≤ R.slots) :
    va_Run p l e R s m args below meth c H locs cells slots mc ms g rest (Qc As.toArray) (free) := by
  have hK : Back l R p e below s args y 3 24 (PreOf R mc ms Pc) (PostOf Qc mc ms free) := by
    obtain ⟨⟨hrc, hrs, hfr, -, hws, hcw, -, hini, -⟩, -⟩ := cw
    exact back_of (bytes := bytes) (maxL := maxL) (ret := ret) hM hp.1 hrc hrs hfr hlo hws hcw (fun a' U hW => word_at hW (Or.inl (by first | rfl | simp [Cond.onTables, Cond.keeps, Cond.steady])) hini)
  obtain ⟨⟨-, -, -, -, -, -, hcode, hini, hy, hlen, hl⟩, hstt⟩ := cw
  obtain ⟨hx, hb, hml, ho, -⟩ := S
  intro T hT X
  obtain ⟨v, vm₁, ⟨U', l2, c2, s2⟩, hW₁, X', ⟨g', mk, t, L, e1, e2, hq, h1, hL, h2, h3⟩, st⟩ := callS X hx (bytes := bytes) (maxL := maxL) (ret := ret) ho hl hstt hini hcode hy hK hg (hsize.trans hml.symm) (argsL := As) (rest := rest) (fun sig h => hn.trans (hlen sig h)) hstack hW (by rw [hb]; exact hdg)
    (fun vm₁ hW₁ => ⟨hf.1, hf.2, hp.2 (T.setVm vm₁) hT hW₁⟩)
  dsimp only [Pt.U, Pt.locs, Pt.cells, Pt.slots] at X' e1 e2 h1 h2 h3 st
  subst h1; subst h2; subst h3
  exact ⟨v, (T.setVm vm₁).calling g' mk As.toArray, t, U', L, hT, X', hL, e1, e2, hq, st⟩
theorem hx_SiW {y : MethodName} {ws : List Cond} {rm : Room} {As : List Value} {mc ms n index maxL : Nat} {bytes : ByteArray} {ret : Option FieldType} (C0 : CallFix p m c cc nL s args lw_all own) (hU : hx_U G s) (hH : hx_H G w s H locs) {K : Hp → Int32 → Prop} (hM : hx_Mi l y ws rm G w As K mc ms) (cw : CallB R s args own index y bytes maxL ret ws rm mc ms n ∧ (Cond.static y).before args s = true) (hlo : 24 + (maxL + 11) + rm.locals ≤ R.locals) (hn : As.length = n) (hsize : ls.size = nL) (hst : st0 = As.reverse ++ rest) (hW : (rest.map fun v => v.category).sum ≤ 24) (hdg : decode cc pc = .ok (.invokestatic index, 3)) (hf : cells + mc ≤ R.cells ∧ slots + ms ≤ R.slots)
    (kk : ∀ (r : Int32) (w : Hp) (H : Heap) (locs : List Loc), hx_H G w s H locs → K w r → W p l e R s m args below meth c H locs (cells + mc) (slots + ms) Q (F0 m (pc + 3) ls (.int r :: rest))) : W p l e R s m args below meth c H locs cells slots Q (F0 m pc ls st0) :=
  va_calli (hy_runSW C0 hM cw hlo ⟨hx_blind, hx_pre hU hH⟩ rfl hn hsize hst (show 2 * 0 + _ ≤ 24 by omega) hdg hf) hH.2 (fun _ _ h => h) (fun _ h => h) (fun r u t H1 locs1 ht _ hp hB _ _ hS => kk r u H1 locs1 ⟨hx_hp' ht hB, hS⟩ hp)
end HX19
