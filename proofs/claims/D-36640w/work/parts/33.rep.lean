/-! THE PLAIN LAW, 3: one abstract state for both sides, and what lies where in the world (printed by gen/mkrep.py) -/
set_option maxRecDepth 100000
abbrev Rt : Type := Int32 × Int32 × Int32
def Rt.pfx (s : Rt) : Int32 := s.1
def Rt.bits (s : Rt) : Int32 := s.2.1
def Rt.peer (s : Rt) : Int32 := s.2.2
def Rt.mk (pfx : Int32) (bits : Int32) (peer : Int32) : Rt := (pfx, bits, peer)
def Rt.s_pfx (s : Rt) (x : Int32) : Rt := Rt.mk x s.bits s.peer
def Rt.s_bits (s : Rt) (x : Int32) : Rt := Rt.mk s.pfx x s.peer
def Rt.s_peer (s : Rt) (x : Int32) : Rt := Rt.mk s.pfx s.bits x
abbrev Pk : Type := Int32 × Int32 × Int32
def Pk.src (s : Pk) : Int32 := s.1
def Pk.dst (s : Pk) : Int32 := s.2.1
def Pk.ld (s : Pk) : Int32 := s.2.2
def Pk.mk (src : Int32) (dst : Int32) (ld : Int32) : Pk := (src, dst, ld)
def Pk.s_src (s : Pk) (x : Int32) : Pk := Pk.mk x s.dst s.ld
def Pk.s_dst (s : Pk) (x : Int32) : Pk := Pk.mk s.src x s.ld
def Pk.s_ld (s : Pk) (x : Int32) : Pk := Pk.mk s.src s.dst x
abbrev Ses : Type := Int32 × Int32 × Int32 × Int32 × Int32 × Int32 × Int32 × Int32 × Int32 × (Nat → Int32)
def Ses.idx (s : Ses) : Int32 := s.1
def Ses.oth (s : Ses) : Int32 := s.2.1
def Ses.made (s : Ses) : Int32 := s.2.2.1
def Ses.snd_ (s : Ses) : Int32 := s.2.2.2.1
def Ses.rcv (s : Ses) : Int32 := s.2.2.2.2.1
def Ses.beg (s : Ses) : Int32 := s.2.2.2.2.2.1
def Ses.sl (s : Ses) : Int32 := s.2.2.2.2.2.2.1
def Ses.top (s : Ses) : Int32 := s.2.2.2.2.2.2.2.1
def Ses.took (s : Ses) : Int32 := s.2.2.2.2.2.2.2.2.1
def Ses.seen (s : Ses) : Nat → Int32 := s.2.2.2.2.2.2.2.2.2
def Ses.mk (idx : Int32) (oth : Int32) (made : Int32) (snd_ : Int32) (rcv : Int32) (beg : Int32) (sl : Int32) (top : Int32) (took : Int32) (seen : Nat → Int32) : Ses := (idx, oth, made, snd_, rcv, beg, sl, top, took, seen)
def Ses.s_idx (s : Ses) (x : Int32) : Ses := Ses.mk x s.oth s.made s.snd_ s.rcv s.beg s.sl s.top s.took s.seen
def Ses.s_oth (s : Ses) (x : Int32) : Ses := Ses.mk s.idx x s.made s.snd_ s.rcv s.beg s.sl s.top s.took s.seen
def Ses.s_made (s : Ses) (x : Int32) : Ses := Ses.mk s.idx s.oth x s.snd_ s.rcv s.beg s.sl s.top s.took s.seen
def Ses.s_snd_ (s : Ses) (x : Int32) : Ses := Ses.mk s.idx s.oth s.made x s.rcv s.beg s.sl s.top s.took s.seen
def Ses.s_rcv (s : Ses) (x : Int32) : Ses := Ses.mk s.idx s.oth s.made s.snd_ x s.beg s.sl s.top s.took s.seen
def Ses.s_beg (s : Ses) (x : Int32) : Ses := Ses.mk s.idx s.oth s.made s.snd_ s.rcv x s.sl s.top s.took s.seen
def Ses.s_sl (s : Ses) (x : Int32) : Ses := Ses.mk s.idx s.oth s.made s.snd_ s.rcv s.beg x s.top s.took s.seen
def Ses.s_top (s : Ses) (x : Int32) : Ses := Ses.mk s.idx s.oth s.made s.snd_ s.rcv s.beg s.sl x s.took s.seen
def Ses.s_took (s : Ses) (x : Int32) : Ses := Ses.mk s.idx s.oth s.made s.snd_ s.rcv s.beg s.sl s.top x s.seen
def Ses.s_seen (s : Ses) (x : Nat → Int32) : Ses := Ses.mk s.idx s.oth s.made s.snd_ s.rcv s.beg s.sl s.top s.took x
abbrev Fl : Type := Int32 × Int32 × Int32 × Int32 × Int32
def Fl.idx (s : Fl) : Int32 := s.1
def Fl.sec (s : Fl) : Int32 := s.2.1
def Fl.key (s : Fl) : Int32 := s.2.2.1
def Fl.tag (s : Fl) : Int32 := s.2.2.2.1
def Fl.at_ (s : Fl) : Int32 := s.2.2.2.2
def Fl.mk (idx : Int32) (sec : Int32) (key : Int32) (tag : Int32) (at_ : Int32) : Fl := (idx, sec, key, tag, at_)
def Fl.s_idx (s : Fl) (x : Int32) : Fl := Fl.mk x s.sec s.key s.tag s.at_
def Fl.s_sec (s : Fl) (x : Int32) : Fl := Fl.mk s.idx x s.key s.tag s.at_
def Fl.s_key (s : Fl) (x : Int32) : Fl := Fl.mk s.idx s.sec x s.tag s.at_
def Fl.s_tag (s : Fl) (x : Int32) : Fl := Fl.mk s.idx s.sec s.key x s.at_
def Fl.s_at_ (s : Fl) (x : Int32) : Fl := Fl.mk s.idx s.sec s.key s.tag x
abbrev Let : Type := Int32 × Int32 × Int32 × Int32 × (Nat → Int32) × (Nat → Int32) × Int32
def Let.from_ (s : Let) : Int32 := s.1
def Let.to_ (s : Let) : Int32 := s.2.1
def Let.kind (s : Let) : Int32 := s.2.2.1
def Let.key (s : Let) : Int32 := s.2.2.2.1
def Let.f (s : Let) : Nat → Int32 := s.2.2.2.2.1
def Let.g (s : Let) : Nat → Int32 := s.2.2.2.2.2.1
def Let.tn (s : Let) : Int32 := s.2.2.2.2.2.2
def Let.mk (from_ : Int32) (to_ : Int32) (kind : Int32) (key : Int32) (f : Nat → Int32) (g : Nat → Int32) (tn : Int32) : Let := (from_, to_, kind, key, f, g, tn)
def Let.s_from_ (s : Let) (x : Int32) : Let := Let.mk x s.to_ s.kind s.key s.f s.g s.tn
def Let.s_to_ (s : Let) (x : Int32) : Let := Let.mk s.from_ x s.kind s.key s.f s.g s.tn
def Let.s_kind (s : Let) (x : Int32) : Let := Let.mk s.from_ s.to_ x s.key s.f s.g s.tn
def Let.s_key (s : Let) (x : Int32) : Let := Let.mk s.from_ s.to_ s.kind x s.f s.g s.tn
def Let.s_f (s : Let) (x : Nat → Int32) : Let := Let.mk s.from_ s.to_ s.kind s.key x s.g s.tn
def Let.s_g (s : Let) (x : Nat → Int32) : Let := Let.mk s.from_ s.to_ s.kind s.key s.f x s.tn
def Let.s_tn (s : Let) (x : Int32) : Let := Let.mk s.from_ s.to_ s.kind s.key s.f s.g x
abbrev Go : Type := Nat × Int32 × Int32 × Int32 × Int32
def Go.e (s : Go) : Nat := s.1
def Go.peer (s : Go) : Int32 := s.2.1
def Go.src (s : Go) : Int32 := s.2.2.1
def Go.dst (s : Go) : Int32 := s.2.2.2.1
def Go.ld (s : Go) : Int32 := s.2.2.2.2
def Go.mk (e : Nat) (peer : Int32) (src : Int32) (dst : Int32) (ld : Int32) : Go := (e, peer, src, dst, ld)
def Go.s_e (s : Go) (x : Nat) : Go := Go.mk x s.peer s.src s.dst s.ld
def Go.s_peer (s : Go) (x : Int32) : Go := Go.mk s.e x s.src s.dst s.ld
def Go.s_src (s : Go) (x : Int32) : Go := Go.mk s.e s.peer x s.dst s.ld
def Go.s_dst (s : Go) (x : Int32) : Go := Go.mk s.e s.peer s.src x s.ld
def Go.s_ld (s : Go) (x : Int32) : Go := Go.mk s.e s.peer s.src s.dst x
abbrev Sg : Type := Int32 × Nat × Int32 × (Nat → Int32) × (Nat → Int32) × (Nat → Nat) × (Nat → Nat → Rt) × (Nat → Nat → Int32) × (Nat → Nat → Int32) × (Nat → Nat → Int32) × (Nat → Nat → Int32) × (Nat → Nat → Int32) × (Nat → Nat → Option Fl) × (Nat → Nat → Nat → Option Ses) × (Nat → Nat → Nat) × (Nat → Nat → Nat → Pk) × Nat × (Nat → Let) × (List Go) × (Nat → Int32)
def Sg.now (s : Sg) : Int32 := s.1
def Sg.made (s : Sg) : Nat := s.2.1
def Sg.dlv (s : Sg) : Int32 := s.2.2.1
def Sg.addr (s : Sg) : Nat → Int32 := s.2.2.2.1
def Sg.load (s : Sg) : Nat → Int32 := s.2.2.2.2.1
def Sg.nr (s : Sg) : Nat → Nat := s.2.2.2.2.2.1
def Sg.rt (s : Sg) : Nat → Nat → Rt := s.2.2.2.2.2.2.1
def Sg.kn (s : Sg) : Nat → Nat → Int32 := s.2.2.2.2.2.2.2.1
def Sg.stT (s : Sg) : Nat → Nat → Int32 := s.2.2.2.2.2.2.2.2.1
def Sg.stS (s : Sg) : Nat → Nat → Int32 := s.2.2.2.2.2.2.2.2.2.1
def Sg.ck (s : Sg) : Nat → Nat → Int32 := s.2.2.2.2.2.2.2.2.2.2.1
def Sg.ckAt (s : Sg) : Nat → Nat → Int32 := s.2.2.2.2.2.2.2.2.2.2.2.1
def Sg.fl (s : Sg) : Nat → Nat → Option Fl := s.2.2.2.2.2.2.2.2.2.2.2.2.1
def Sg.se (s : Sg) : Nat → Nat → Nat → Option Ses := s.2.2.2.2.2.2.2.2.2.2.2.2.2.1
def Sg.nw (s : Sg) : Nat → Nat → Nat := s.2.2.2.2.2.2.2.2.2.2.2.2.2.2.1
def Sg.wt (s : Sg) : Nat → Nat → Nat → Pk := s.2.2.2.2.2.2.2.2.2.2.2.2.2.2.2.1
def Sg.nl (s : Sg) : Nat := s.2.2.2.2.2.2.2.2.2.2.2.2.2.2.2.2.1
def Sg.lt (s : Sg) : Nat → Let := s.2.2.2.2.2.2.2.2.2.2.2.2.2.2.2.2.2.1
def Sg.go (s : Sg) : List Go := s.2.2.2.2.2.2.2.2.2.2.2.2.2.2.2.2.2.2.1
def Sg.co (s : Sg) : Nat → Int32 := s.2.2.2.2.2.2.2.2.2.2.2.2.2.2.2.2.2.2.2
def Sg.mk (now : Int32) (made : Nat) (dlv : Int32) (addr : Nat → Int32) (load : Nat → Int32) (nr : Nat → Nat) (rt : Nat → Nat → Rt) (kn : Nat → Nat → Int32) (stT : Nat → Nat → Int32) (stS : Nat → Nat → Int32) (ck : Nat → Nat → Int32) (ckAt : Nat → Nat → Int32) (fl : Nat → Nat → Option Fl) (se : Nat → Nat → Nat → Option Ses) (nw : Nat → Nat → Nat) (wt : Nat → Nat → Nat → Pk) (nl : Nat) (lt : Nat → Let) (go : List Go) (co : Nat → Int32) : Sg := (now, made, dlv, addr, load, nr, rt, kn, stT, stS, ck, ckAt, fl, se, nw, wt, nl, lt, go, co)
def Sg.s_now (s : Sg) (x : Int32) : Sg := Sg.mk x s.made s.dlv s.addr s.load s.nr s.rt s.kn s.stT s.stS s.ck s.ckAt s.fl s.se s.nw s.wt s.nl s.lt s.go s.co
def Sg.s_made (s : Sg) (x : Nat) : Sg := Sg.mk s.now x s.dlv s.addr s.load s.nr s.rt s.kn s.stT s.stS s.ck s.ckAt s.fl s.se s.nw s.wt s.nl s.lt s.go s.co
def Sg.s_dlv (s : Sg) (x : Int32) : Sg := Sg.mk s.now s.made x s.addr s.load s.nr s.rt s.kn s.stT s.stS s.ck s.ckAt s.fl s.se s.nw s.wt s.nl s.lt s.go s.co
def Sg.s_addr (s : Sg) (x : Nat → Int32) : Sg := Sg.mk s.now s.made s.dlv x s.load s.nr s.rt s.kn s.stT s.stS s.ck s.ckAt s.fl s.se s.nw s.wt s.nl s.lt s.go s.co
def Sg.s_load (s : Sg) (x : Nat → Int32) : Sg := Sg.mk s.now s.made s.dlv s.addr x s.nr s.rt s.kn s.stT s.stS s.ck s.ckAt s.fl s.se s.nw s.wt s.nl s.lt s.go s.co
def Sg.s_nr (s : Sg) (x : Nat → Nat) : Sg := Sg.mk s.now s.made s.dlv s.addr s.load x s.rt s.kn s.stT s.stS s.ck s.ckAt s.fl s.se s.nw s.wt s.nl s.lt s.go s.co
def Sg.s_rt (s : Sg) (x : Nat → Nat → Rt) : Sg := Sg.mk s.now s.made s.dlv s.addr s.load s.nr x s.kn s.stT s.stS s.ck s.ckAt s.fl s.se s.nw s.wt s.nl s.lt s.go s.co
def Sg.s_kn (s : Sg) (x : Nat → Nat → Int32) : Sg := Sg.mk s.now s.made s.dlv s.addr s.load s.nr s.rt x s.stT s.stS s.ck s.ckAt s.fl s.se s.nw s.wt s.nl s.lt s.go s.co
def Sg.s_stT (s : Sg) (x : Nat → Nat → Int32) : Sg := Sg.mk s.now s.made s.dlv s.addr s.load s.nr s.rt s.kn x s.stS s.ck s.ckAt s.fl s.se s.nw s.wt s.nl s.lt s.go s.co
def Sg.s_stS (s : Sg) (x : Nat → Nat → Int32) : Sg := Sg.mk s.now s.made s.dlv s.addr s.load s.nr s.rt s.kn s.stT x s.ck s.ckAt s.fl s.se s.nw s.wt s.nl s.lt s.go s.co
def Sg.s_ck (s : Sg) (x : Nat → Nat → Int32) : Sg := Sg.mk s.now s.made s.dlv s.addr s.load s.nr s.rt s.kn s.stT s.stS x s.ckAt s.fl s.se s.nw s.wt s.nl s.lt s.go s.co
def Sg.s_ckAt (s : Sg) (x : Nat → Nat → Int32) : Sg := Sg.mk s.now s.made s.dlv s.addr s.load s.nr s.rt s.kn s.stT s.stS s.ck x s.fl s.se s.nw s.wt s.nl s.lt s.go s.co
def Sg.s_fl (s : Sg) (x : Nat → Nat → Option Fl) : Sg := Sg.mk s.now s.made s.dlv s.addr s.load s.nr s.rt s.kn s.stT s.stS s.ck s.ckAt x s.se s.nw s.wt s.nl s.lt s.go s.co
def Sg.s_se (s : Sg) (x : Nat → Nat → Nat → Option Ses) : Sg := Sg.mk s.now s.made s.dlv s.addr s.load s.nr s.rt s.kn s.stT s.stS s.ck s.ckAt s.fl x s.nw s.wt s.nl s.lt s.go s.co
def Sg.s_nw (s : Sg) (x : Nat → Nat → Nat) : Sg := Sg.mk s.now s.made s.dlv s.addr s.load s.nr s.rt s.kn s.stT s.stS s.ck s.ckAt s.fl s.se x s.wt s.nl s.lt s.go s.co
def Sg.s_wt (s : Sg) (x : Nat → Nat → Nat → Pk) : Sg := Sg.mk s.now s.made s.dlv s.addr s.load s.nr s.rt s.kn s.stT s.stS s.ck s.ckAt s.fl s.se s.nw x s.nl s.lt s.go s.co
def Sg.s_nl (s : Sg) (x : Nat) : Sg := Sg.mk s.now s.made s.dlv s.addr s.load s.nr s.rt s.kn s.stT s.stS s.ck s.ckAt s.fl s.se s.nw s.wt x s.lt s.go s.co
def Sg.s_lt (s : Sg) (x : Nat → Let) : Sg := Sg.mk s.now s.made s.dlv s.addr s.load s.nr s.rt s.kn s.stT s.stS s.ck s.ckAt s.fl s.se s.nw s.wt s.nl x s.go s.co
def Sg.s_go (s : Sg) (x : List Go) : Sg := Sg.mk s.now s.made s.dlv s.addr s.load s.nr s.rt s.kn s.stT s.stS s.ck s.ckAt s.fl s.se s.nw s.wt s.nl s.lt x s.co
def Sg.s_co (s : Sg) (x : Nat → Int32) : Sg := Sg.mk s.now s.made s.dlv s.addr s.load s.nr s.rt s.kn s.stT s.stS s.ck s.ckAt s.fl s.se s.nw s.wt s.nl s.lt s.go x
abbrev Wo : Type := Sg × Sg × (Nat → Bool) × Int32 × Int64 × Int64
def Wo.c (s : Wo) : Sg := s.1
def Wo.m (s : Wo) : Sg := s.2.1
def Wo.ow (s : Wo) : Nat → Bool := s.2.2.1
def Wo.th (s : Wo) : Int32 := s.2.2.2.1
def Wo.sm (s : Wo) : Int64 := s.2.2.2.2.1
def Wo.o (s : Wo) : Int64 := s.2.2.2.2.2
def Wo.mk (c : Sg) (m : Sg) (ow : Nat → Bool) (th : Int32) (sm : Int64) (o : Int64) : Wo := (c, m, ow, th, sm, o)
def Wo.s_c (s : Wo) (x : Sg) : Wo := Wo.mk x s.m s.ow s.th s.sm s.o
def Wo.s_m (s : Wo) (x : Sg) : Wo := Wo.mk s.c x s.ow s.th s.sm s.o
def Wo.s_ow (s : Wo) (x : Nat → Bool) : Wo := Wo.mk s.c s.m x s.th s.sm s.o
def Wo.s_th (s : Wo) (x : Int32) : Wo := Wo.mk s.c s.m s.ow x s.sm s.o
def Wo.s_sm (s : Wo) (x : Int64) : Wo := Wo.mk s.c s.m s.ow s.th x s.o
def Wo.s_o (s : Wo) (x : Int64) : Wo := Wo.mk s.c s.m s.ow s.th s.sm x
/-- what came out of the end e -/
def Sg.po (s : Sg) (e : Nat) : List Go := s.go.filter fun g => g.e == e
def upd1 {α : Type} (f : Nat → α) (a : Nat) (x : α) : Nat → α := fun i => if i = a then x else f i
def upd2 {α : Type} (f : Nat → Nat → α) (a b : Nat) (x : α) : Nat → Nat → α := fun i j => if i = a ∧ j = b then x else f i j
def upd3 {α : Type} (f : Nat → Nat → Nat → α) (a b c : Nat) (x : α) : Nat → Nat → Nat → α := fun i j k => if i = a ∧ j = b ∧ k = c then x else f i j k
abbrev rf (a : Nat) : Value := va_rf (some a)
def aE (t n : Nat) (f : Nat → Int32) : hE := .inl (t, n, .inl f)
def aP (t n : Nat) (f : Nat → Option Nat) : hE := .inl (t, n, hr_ f)
/-- a role of a cell: its kind, and up to three numbers -/
abbrev Rq : Type := Nat × Nat × Nat × Nat
abbrev Ro : Type := Rq ⊕ Rq
def oS {α : Type} (x : Option α) (a : Nat) : Option Nat := x.map fun _ => a
/-- a list's object: its array is its own, or the shared empty one -/
def okL (w : Option hE) (own : Bool) (d e0 : Nat) (n : Nat) : Prop := ∃ mc : Int32, w = some (.inr (7, [.int mc, rf (if own then d else e0), .int (nI n)])) ∧ (own = false → n = 0)
def okD (w : Option hE) (n : Nat) (p : Nat → Nat) : Prop := ∃ c f, w = some (aP 6 c f) ∧ n ≤ c ∧ 0 < c ∧ c ≤ 128 ∧ ∀ i, i < n → f i = some (p i)
def okP (w : Option hE) (t n m : Nat) (p : Nat → Nat) : Prop := ∃ f, w = some (aP t n f) ∧ ∀ i, i < m → f i = some (p i)
def okA (w : Option hE) (t n : Nat) (P : (Nat → Int32) → Prop) : Prop := ∃ f, w = some (aE t n f) ∧ P f
def mxok (s : Sg) (j a b : Nat) (v : Int32) : Prop := match j with
  | 0 => v = s.kn a b
  | 1 => v = s.stT a b
  | 2 => v = s.stS a b
  | 3 => v = (match s.fl a b with | none => -1 | some f => f.idx)
  | 4 => ∀ f, s.fl a b = some f → v = f.sec
  | 5 => ∀ f, s.fl a b = some f → v = f.tag
  | 6 => ∀ f, s.fl a b = some f → v = f.at_
  | 7 => v = s.ck a b
  | 8 => v = s.ckAt a b
  | _ => v = nI (s.nw a b)
def okSes (z : Ses) (f : Nat → Int32) : Prop := f 0 = z.idx ∧ f 1 = z.oth ∧ f 2 = z.made ∧ f 3 = z.snd_ ∧ f 4 = z.rcv ∧ f 5 = z.sl ∧ f 6 = z.beg ∧ f 7 = z.top ∧ f 8 = z.took
def okLet (l : Let) (f : Nat → Int32) : Prop := f 0 = l.from_ ∧ f 1 = l.to_ ∧ f 2 = l.kind ∧ (∀ j, j < 6 → f (3 + j) = l.f j ∧ f (9 + j) = l.g j) ∧ f 15 = l.tn
abbrev c_top : Ro := .inl (0, 0, 0, 0)
abbrev c_addr : Ro := .inl (1, 0, 0, 0)
abbrev c_load : Ro := .inl (2, 0, 0, 0)
abbrev c_tabs : Ro := .inl (3, 0, 0, 0)
abbrev c_tab (a : Nat) : Ro := .inl (4, a, 0, 0)
abbrev c_tpx (a : Nat) : Ro := .inl (5, a, 0, 0)
abbrev c_tbi (a : Nat) : Ro := .inl (6, a, 0, 0)
abbrev c_tpe (a : Nat) : Ro := .inl (7, a, 0, 0)
abbrev c_sds : Ro := .inl (8, 0, 0, 0)
abbrev c_sdr (a : Nat) : Ro := .inl (9, a, 0, 0)
abbrev c_sd (a b : Nat) : Ro := .inl (10, a, b, 0)
abbrev c_pks (a b : Nat) : Ro := .inl (11, a, b, 0)
abbrev c_pk (a b k : Nat) : Ro := .inl (12, a, b, k)
abbrev c_se (a b k : Nat) : Ro := .inl (13, a, b, k)
abbrev c_sn (a b k : Nat) : Ro := .inl (14, a, b, k)
abbrev c_fl (a b : Nat) : Ro := .inl (15, a, b, 0)
abbrev c_lts : Ro := .inl (16, 0, 0, 0)
abbrev c_lta : Ro := .inl (17, 0, 0, 0)
abbrev c_lt (a : Nat) : Ro := .inl (18, a, 0, 0)
abbrev c_lf (a : Nat) : Ro := .inl (19, a, 0, 0)
abbrev c_rws : Ro := .inl (20, 0, 0, 0)
abbrev c_rwa : Ro := .inl (21, 0, 0, 0)
abbrev c_rw (a : Nat) : Ro := .inl (22, a, 0, 0)
abbrev c_rwd (a : Nat) : Ro := .inl (23, a, 0, 0)
abbrev c_rp (a b : Nat) : Ro := .inl (24, a, b, 0)
abbrev c_co : Ro := .inl (25, 0, 0, 0)
abbrev c_e : Ro := .inl (26, 0, 0, 0)
abbrev m_top : Ro := .inr (0, 0, 0, 0)
abbrev m_addr : Ro := .inr (1, 0, 0, 0)
abbrev m_rou : Ro := .inr (2, 0, 0, 0)
abbrev m_outs : Ro := .inr (3, 0, 0, 0)
abbrev m_co : Ro := .inr (4, 0, 0, 0)
abbrev m_ld : Ro := .inr (5, 0, 0, 0)
abbrev m_rt0 : Ro := .inr (6, 0, 0, 0)
abbrev m_rt1 (a : Nat) : Ro := .inr (7, a, 0, 0)
abbrev m_rt2 (a b : Nat) : Ro := .inr (8, a, b, 0)
abbrev m_mx (a : Nat) : Ro := .inr (9, a, 0, 0)
abbrev m_mxr (a b : Nat) : Ro := .inr (10, a, b, 0)
abbrev m_pk0 : Ro := .inr (11, 0, 0, 0)
abbrev m_pk1 (a : Nat) : Ro := .inr (12, a, 0, 0)
abbrev m_pk2 (a b : Nat) : Ro := .inr (13, a, b, 0)
abbrev m_pk3 (a b k : Nat) : Ro := .inr (14, a, b, k)
abbrev m_se0 : Ro := .inr (15, 0, 0, 0)
abbrev m_se1 (a : Nat) : Ro := .inr (16, a, 0, 0)
abbrev m_se2 (a b : Nat) : Ro := .inr (17, a, b, 0)
abbrev m_se3 (a b k : Nat) : Ro := .inr (18, a, b, k)
abbrev m_tk0 : Ro := .inr (19, 0, 0, 0)
abbrev m_tk1 (a : Nat) : Ro := .inr (20, a, 0, 0)
abbrev m_tk2 (a b : Nat) : Ro := .inr (21, a, b, 0)
abbrev m_tk3 (a b k : Nat) : Ro := .inr (22, a, b, k)
abbrev m_le : Ro := .inr (23, 0, 0, 0)
abbrev m_le1 (a : Nat) : Ro := .inr (24, a, 0, 0)
abbrev m_out : Ro := .inr (25, 0, 0, 0)
abbrev m_ou1 (a : Nat) : Ro := .inr (26, a, 0, 0)
abbrev m_o : Ro := .inr (27, 0, 0, 0)
def LvC (c : Sg) (ow : Nat → Bool) (r : Rq) : Prop := let a := r.2.1; let b := r.2.2.1; let k := r.2.2.2; match r.1 with
  | 0 => a = 0 ∧ b = 0 ∧ k = 0
  | 1 => a = 0 ∧ b = 0 ∧ k = 0
  | 2 => a = 0 ∧ b = 0 ∧ k = 0
  | 3 => a = 0 ∧ b = 0 ∧ k = 0
  | 4 => a < 3 ∧ b = 0 ∧ k = 0
  | 5 => a < 3 ∧ b = 0 ∧ k = 0
  | 6 => a < 3 ∧ b = 0 ∧ k = 0
  | 7 => a < 3 ∧ b = 0 ∧ k = 0
  | 8 => a = 0 ∧ b = 0 ∧ k = 0
  | 9 => a < 3 ∧ b = 0 ∧ k = 0
  | 10 => a < 3 ∧ b < 3 ∧ k = 0
  | 11 => a < 3 ∧ b < 3 ∧ k = 0
  | 12 => a < 3 ∧ b < 3 ∧ k < c.nw a b
  | 13 => a < 3 ∧ b < 3 ∧ k < 3 ∧ (c.se a b k).isSome = true
  | 14 => a < 3 ∧ b < 3 ∧ k < 3 ∧ (c.se a b k).isSome = true
  | 15 => a < 3 ∧ b < 3 ∧ (c.fl a b).isSome = true ∧ k = 0
  | 16 => a = 0 ∧ b = 0 ∧ k = 0
  | 17 => ow 0 = true ∧ a = 0 ∧ b = 0 ∧ k = 0
  | 18 => a < c.nl ∧ b = 0 ∧ k = 0
  | 19 => a < c.nl ∧ b = 0 ∧ k = 0
  | 20 => a = 0 ∧ b = 0 ∧ k = 0
  | 21 => ow 1 = true ∧ a = 0 ∧ b = 0 ∧ k = 0
  | 22 => a < 3 ∧ b = 0 ∧ k = 0
  | 23 => a < 3 ∧ ow (2 + a) = true ∧ b = 0 ∧ k = 0
  | 24 => a < 3 ∧ b < (c.po a).length ∧ k = 0
  | 25 => a = 0 ∧ b = 0 ∧ k = 0
  | 26 => a = 0 ∧ b = 0 ∧ k = 0
  | _ => False
def OkC (c : Sg) (ow : Nat → Bool) (ad : Ro → Nat) (w : Option hE) (r : Rq) : Prop := let a := r.2.1; let b := r.2.2.1; let k := r.2.2.2; match r.1 with
  | 0 => w = some (.inr (0, [.int c.now, .int (nI c.made), .int c.dlv, rf (ad c_addr), rf (ad c_load), rf (ad c_tabs), rf (ad c_sds), rf (ad c_lts), rf (ad c_rws), rf (ad c_co)]))
  | 1 => w = some (aE 0 3 c.addr)
  | 2 => w = some (aE 1 3 c.load)
  | 3 => okP w 5 3 3 (fun e => ad (c_tab e))
  | 4 => w = some (.inr (1, [rf (ad (c_tpx a)), rf (ad (c_tbi a)), rf (ad (c_tpe a)), .int (nI (c.nr a))]))
  | 5 => okA w 0 8 (fun f => ∀ k, k < 8 → f k = (c.rt a k).pfx)
  | 6 => okA w 0 8 (fun f => ∀ k, k < 8 → f k = (c.rt a k).bits)
  | 7 => okA w 0 8 (fun f => ∀ k, k < 8 → f k = (c.rt a k).peer)
  | 8 => okP w 4 3 3 (fun a => ad (c_sdr a))
  | 9 => okP w 3 3 3 (fun b => ad (c_sd a b))
  | 10 => w = some (.inr (2, [.int (c.kn a b), va_rf (oS (c.se a b 0) (ad (c_se a b 0))), va_rf (oS (c.se a b 1) (ad (c_se a b 1))), va_rf (oS (c.se a b 2) (ad (c_se a b 2))), va_rf (oS (c.fl a b) (ad (c_fl a b))), .int (c.stT a b), .int (c.stS a b), .int (c.ck a b), .int (c.ckAt a b), rf (ad (c_pks a b)), .int (nI (c.nw a b))]))
  | 11 => okP w 7 4 (c.nw a b) (fun k => ad (c_pk a b k))
  | 12 => okA w 0 3 (fun f => f 0 = (c.wt a b k).src ∧ f 1 = (c.wt a b k).dst ∧ f 2 = (c.wt a b k).ld)
  | 13 => ∀ z, c.se a b k = some z → w = some (.inr (6, [.int z.idx, .int z.oth, .int z.made, .int z.snd_, .int z.rcv, .int z.beg, rf (ad (c_sn a b k)), .int z.sl, .int z.top, .int z.took]))
  | 14 => ∀ z, c.se a b k = some z → w = some (aE 1 40 z.seen)
  | 15 => ∀ z, c.fl a b = some z → w = some (.inr (5, [.int z.idx, .int z.sec, .int z.key, .int z.tag, .int z.at_]))
  | 16 => okL w (ow 0) (ad c_lta) (ad c_e) c.nl
  | 17 => okD w c.nl (fun i => ad (c_lt i))
  | 18 => ∃ sent : Int32, w = some (.inr (4, [.int (c.lt a).from_, .int (c.lt a).to_, .int (c.lt a).kind, .int (c.lt a).key, rf (ad (c_lf a)), .int (c.lt a).tn, .int sent])) ∧ ((c.lt a).tn ≠ -1 → sent = (c.lt a).g (c.lt a).tn.toNatClampNeg)
  | 19 => okA w 0 6 (fun f => ∀ j, j < 6 → f j = (c.lt a).f j)
  | 20 => okL w (ow 1) (ad c_rwa) (ad c_e) 3
  | 21 => okD w 3 (fun i => ad (c_rw i))
  | 22 => okL w (ow (2 + a)) (ad (c_rwd a)) (ad c_e) (c.po a).length
  | 23 => okD w (c.po a).length (fun i => ad (c_rp a i))
  | 24 => okA w 0 4 (fun f => ∀ g, (c.po a)[b]? = some g → f 0 = g.peer ∧ f 1 = g.src ∧ f 2 = g.dst ∧ f 3 = g.ld)
  | 25 => w = some (aE 0 11 c.co)
  | 26 => w = some roE
  | _ => False
def LvM (c : Sg) (r : Rq) : Prop := let a := r.2.1; let b := r.2.2.1; let k := r.2.2.2; match r.1 with
  | 0 => a = 0 ∧ b = 0 ∧ k = 0
  | 1 => a = 0 ∧ b = 0 ∧ k = 0
  | 2 => a = 0 ∧ b = 0 ∧ k = 0
  | 3 => a = 0 ∧ b = 0 ∧ k = 0
  | 4 => a = 0 ∧ b = 0 ∧ k = 0
  | 5 => a = 0 ∧ b = 0 ∧ k = 0
  | 6 => a = 0 ∧ b = 0 ∧ k = 0
  | 7 => a < 3 ∧ b = 0 ∧ k = 0
  | 8 => a < 3 ∧ b < c.nr a ∧ k = 0
  | 9 => a < 10 ∧ b = 0 ∧ k = 0
  | 10 => a < 10 ∧ b < 3 ∧ k = 0
  | 11 => a = 0 ∧ b = 0 ∧ k = 0
  | 12 => a < 3 ∧ b = 0 ∧ k = 0
  | 13 => a < 3 ∧ b < 3 ∧ k = 0
  | 14 => a < 3 ∧ b < 3 ∧ k < c.nw a b
  | 15 => a = 0 ∧ b = 0 ∧ k = 0
  | 16 => a < 3 ∧ b = 0 ∧ k = 0
  | 17 => a < 3 ∧ b < 3 ∧ k = 0
  | 18 => a < 3 ∧ b < 3 ∧ k < 3
  | 19 => a = 0 ∧ b = 0 ∧ k = 0
  | 20 => a < 3 ∧ b = 0 ∧ k = 0
  | 21 => a < 3 ∧ b < 3 ∧ k = 0
  | 22 => a < 3 ∧ b < 3 ∧ k < 3
  | 23 => a = 0 ∧ b = 0 ∧ k = 0
  | 24 => a < c.nl ∧ b = 0 ∧ k = 0
  | 25 => a = 0 ∧ b = 0 ∧ k = 0
  | 26 => a < c.go.length ∧ b = 0 ∧ k = 0
  | 27 => a = 0 ∧ b = 0 ∧ k = 0
  | _ => False
def OkM (c : Sg) (th : Int32) (sm o9 : Int64) (ad : Ro → Nat) (w : Option hE) (r : Rq) : Prop := let a := r.2.1; let b := r.2.2.1; let k := r.2.2.2; match r.1 with
  | 0 => w = some (.inr (3, [.int c.now, .int (nI (c.made + 1)), .int th, .int c.dlv, rf (ad m_addr), rf (ad m_rou), rf (ad m_outs), rf (ad m_co), rf (ad m_ld), rf (ad m_rt0), rf (ad (m_mx 0)), rf (ad (m_mx 1)), rf (ad (m_mx 2)), rf (ad (m_mx 3)), rf (ad (m_mx 4)), rf (ad (m_mx 5)), rf (ad (m_mx 6)), rf (ad (m_mx 7)), rf (ad (m_mx 8)), rf (ad (m_mx 9)), rf (ad m_pk0), rf (ad m_se0), rf (ad m_tk0), rf (ad m_le), .int (nI c.nl), rf (ad m_out), .long sm]))
  | 1 => w = some (aE 0 3 c.addr)
  | 2 => okA w 0 3 (fun f => ∀ e, e < 3 → f e = nI (c.nr e))
  | 3 => okA w 0 3 (fun f => ∀ e, e < 3 → f e = nI (c.po e).length)
  | 4 => w = some (aE 0 11 c.co)
  | 5 => w = some (aE 1 3 c.load)
  | 6 => okP w 8 3 3 (fun e => ad (m_rt1 e))
  | 7 => okP w 7 8 (c.nr a) (fun k => ad (m_rt2 a k))
  | 8 => okA w 0 3 (fun f => f 0 = (c.rt a b).pfx ∧ f 1 = (c.rt a b).bits ∧ f 2 = (c.rt a b).peer)
  | 9 => okP w 7 3 3 (fun b => ad (m_mxr a b))
  | 10 => okA w 0 3 (fun f => ∀ i, i < 3 → mxok c a b i (f i))
  | 11 => okP w 9 3 3 (fun a => ad (m_pk1 a))
  | 12 => okP w 8 3 3 (fun b => ad (m_pk2 a b))
  | 13 => okP w 7 4 (c.nw a b) (fun k => ad (m_pk3 a b k))
  | 14 => okA w 0 3 (fun f => f 0 = (c.wt a b k).src ∧ f 1 = (c.wt a b k).dst ∧ f 2 = (c.wt a b k).ld)
  | 15 => okP w 9 3 3 (fun a => ad (m_se1 a))
  | 16 => okP w 8 3 3 (fun b => ad (m_se2 a b))
  | 17 => okP w 7 3 3 (fun k => ad (m_se3 a b k))
  | 18 => okA w 0 9 (fun f => (c.se a b k = none → f 0 = 0) ∧ ∀ z, c.se a b k = some z → okSes z f)
  | 19 => okP w 12 3 3 (fun a => ad (m_tk1 a))
  | 20 => okP w 11 3 3 (fun b => ad (m_tk2 a b))
  | 21 => okP w 10 3 3 (fun k => ad (m_tk3 a b k))
  | 22 => okA w 1 40 (fun f => ∀ z, c.se a b k = some z → f = z.seen)
  | 23 => okP w 7 60 c.nl (fun i => ad (m_le1 i))
  | 24 => okA w 0 16 (fun f => okLet (c.lt a) f)
  | 25 => okP w 7 c.go.length c.go.length (fun i => ad (m_ou1 i))
  | 26 => okA w 0 5 (fun f => ∀ g, c.go[a]? = some g → f 0 = nI g.e ∧ f 1 = g.peer ∧ f 2 = g.src ∧ f 3 = g.dst ∧ f 4 = g.ld)
  | 27 => ∃ f : Nat → Int64, w = some (.inl (2, 1, .inr (.inl f))) ∧ f 0 = o9
  | _ => False
def Lv (s : Wo) : Ro → Prop
  | .inl r => LvC s.c s.ow r
  | .inr r => LvM s.m r
def Ok (s : Wo) (ad : Ro → Nat) (w : Option hE) : Ro → Prop
  | .inl r => OkC s.c s.ow ad w r
  | .inr r => OkM s.m s.th s.sm s.o ad w r
/-- kinds whose cell never changes its address -/
def stc : Ro → Bool
  | .inl r => [0, 1, 2, 3, 4, 5, 6, 7, 8, 9, 10, 11, 16, 20, 22, 25, 26].contains r.1
  | .inr r => [0, 1, 2, 3, 4, 5, 6, 7, 9, 10, 11, 12, 13, 15, 16, 17, 19, 20, 21, 23, 27].contains r.1
def R (A : Ro → Nat) (ad : Ro → Nat) (s : Wo) (w : Hp) : Prop := (∀ r, stc r = true → ad r = A r) ∧ (∀ r r', Lv s r → Lv s r' → ad r = ad r' → r = r') ∧ (∀ r, Lv s r → Ok s ad (w (ad r)) r) ∧ ∀ a, w a = some roE → a = ad c_e
theorem R.st {A ad : Ro → Nat} {s : Wo} {w : Hp} (h : R A ad s w) : ∀ r, stc r = true → ad r = A r := h.1
theorem R.inj {A ad : Ro → Nat} {s : Wo} {w : Hp} (h : R A ad s w) : ∀ r r', Lv s r → Lv s r' → ad r = ad r' → r = r' := h.2.1
theorem R.ok {A ad : Ro → Nat} {s : Wo} {w : Hp} (h : R A ad s w) : ∀ r, Lv s r → Ok s ad (w (ad r)) r := h.2.2.1
theorem R.ro {A ad : Ro → Nat} {s : Wo} {w : Hp} (h : R A ad s w) : ∀ a, w a = some roE → a = ad c_e := h.2.2.2
theorem l_c_top {s : Wo} : Lv s c_top := ⟨rfl, rfl, rfl⟩
theorem R.gc_top {A ad : Ro → Nat} {s : Wo} {w : Hp} (h : R A ad s w) : w (ad c_top) = some (.inr (0, [.int s.c.now, .int (nI s.c.made), .int s.c.dlv, rf (ad c_addr), rf (ad c_load), rf (ad c_tabs), rf (ad c_sds), rf (ad c_lts), rf (ad c_rws), rf (ad c_co)])) := h.ok c_top (l_c_top)
theorem l_c_addr {s : Wo} : Lv s c_addr := ⟨rfl, rfl, rfl⟩
theorem R.gc_addr {A ad : Ro → Nat} {s : Wo} {w : Hp} (h : R A ad s w) : w (ad c_addr) = some (aE 0 3 s.c.addr) := h.ok c_addr (l_c_addr)
theorem l_c_load {s : Wo} : Lv s c_load := ⟨rfl, rfl, rfl⟩
theorem R.gc_load {A ad : Ro → Nat} {s : Wo} {w : Hp} (h : R A ad s w) : w (ad c_load) = some (aE 1 3 s.c.load) := h.ok c_load (l_c_load)
theorem l_c_tabs {s : Wo} : Lv s c_tabs := ⟨rfl, rfl, rfl⟩
theorem R.gc_tabs {A ad : Ro → Nat} {s : Wo} {w : Hp} (h : R A ad s w) : okP (w (ad c_tabs)) 5 3 3 (fun e => ad (c_tab e)) := h.ok c_tabs (l_c_tabs)
theorem l_c_tab {s : Wo} {a : Nat} (h0 : a < 3) : Lv s (c_tab a) := ⟨h0, rfl, rfl⟩
theorem R.gc_tab {A ad : Ro → Nat} {s : Wo} {w : Hp} (h : R A ad s w) {a : Nat} (h0 : a < 3) : w (ad (c_tab a)) = some (.inr (1, [rf (ad (c_tpx a)), rf (ad (c_tbi a)), rf (ad (c_tpe a)), .int (nI (s.c.nr a))])) := h.ok (c_tab a) (l_c_tab h0)
theorem l_c_tpx {s : Wo} {a : Nat} (h0 : a < 3) : Lv s (c_tpx a) := ⟨h0, rfl, rfl⟩
theorem R.gc_tpx {A ad : Ro → Nat} {s : Wo} {w : Hp} (h : R A ad s w) {a : Nat} (h0 : a < 3) : okA (w (ad (c_tpx a))) 0 8 (fun f => ∀ k, k < 8 → f k = (s.c.rt a k).pfx) := h.ok (c_tpx a) (l_c_tpx h0)
theorem l_c_tbi {s : Wo} {a : Nat} (h0 : a < 3) : Lv s (c_tbi a) := ⟨h0, rfl, rfl⟩
theorem R.gc_tbi {A ad : Ro → Nat} {s : Wo} {w : Hp} (h : R A ad s w) {a : Nat} (h0 : a < 3) : okA (w (ad (c_tbi a))) 0 8 (fun f => ∀ k, k < 8 → f k = (s.c.rt a k).bits) := h.ok (c_tbi a) (l_c_tbi h0)
theorem l_c_tpe {s : Wo} {a : Nat} (h0 : a < 3) : Lv s (c_tpe a) := ⟨h0, rfl, rfl⟩
theorem R.gc_tpe {A ad : Ro → Nat} {s : Wo} {w : Hp} (h : R A ad s w) {a : Nat} (h0 : a < 3) : okA (w (ad (c_tpe a))) 0 8 (fun f => ∀ k, k < 8 → f k = (s.c.rt a k).peer) := h.ok (c_tpe a) (l_c_tpe h0)
theorem l_c_sds {s : Wo} : Lv s c_sds := ⟨rfl, rfl, rfl⟩
theorem R.gc_sds {A ad : Ro → Nat} {s : Wo} {w : Hp} (h : R A ad s w) : okP (w (ad c_sds)) 4 3 3 (fun a => ad (c_sdr a)) := h.ok c_sds (l_c_sds)
theorem l_c_sdr {s : Wo} {a : Nat} (h0 : a < 3) : Lv s (c_sdr a) := ⟨h0, rfl, rfl⟩
theorem R.gc_sdr {A ad : Ro → Nat} {s : Wo} {w : Hp} (h : R A ad s w) {a : Nat} (h0 : a < 3) : okP (w (ad (c_sdr a))) 3 3 3 (fun b => ad (c_sd a b)) := h.ok (c_sdr a) (l_c_sdr h0)
theorem l_c_sd {s : Wo} {a b : Nat} (h0 : a < 3) (h1 : b < 3) : Lv s (c_sd a b) := ⟨h0, h1, rfl⟩
theorem R.gc_sd {A ad : Ro → Nat} {s : Wo} {w : Hp} (h : R A ad s w) {a b : Nat} (h0 : a < 3) (h1 : b < 3) : w (ad (c_sd a b)) = some (.inr (2, [.int (s.c.kn a b), va_rf (oS (s.c.se a b 0) (ad (c_se a b 0))), va_rf (oS (s.c.se a b 1) (ad (c_se a b 1))), va_rf (oS (s.c.se a b 2) (ad (c_se a b 2))), va_rf (oS (s.c.fl a b) (ad (c_fl a b))), .int (s.c.stT a b), .int (s.c.stS a b), .int (s.c.ck a b), .int (s.c.ckAt a b), rf (ad (c_pks a b)), .int (nI (s.c.nw a b))])) := h.ok (c_sd a b) (l_c_sd h0 h1)
theorem l_c_pks {s : Wo} {a b : Nat} (h0 : a < 3) (h1 : b < 3) : Lv s (c_pks a b) := ⟨h0, h1, rfl⟩
theorem R.gc_pks {A ad : Ro → Nat} {s : Wo} {w : Hp} (h : R A ad s w) {a b : Nat} (h0 : a < 3) (h1 : b < 3) : okP (w (ad (c_pks a b))) 7 4 (s.c.nw a b) (fun k => ad (c_pk a b k)) := h.ok (c_pks a b) (l_c_pks h0 h1)
theorem l_c_pk {s : Wo} {a b k : Nat} (h0 : a < 3) (h1 : b < 3) (h2 : k < s.c.nw a b) : Lv s (c_pk a b k) := ⟨h0, h1, h2⟩
theorem R.gc_pk {A ad : Ro → Nat} {s : Wo} {w : Hp} (h : R A ad s w) {a b k : Nat} (h0 : a < 3) (h1 : b < 3) (h2 : k < s.c.nw a b) : okA (w (ad (c_pk a b k))) 0 3 (fun f => f 0 = (s.c.wt a b k).src ∧ f 1 = (s.c.wt a b k).dst ∧ f 2 = (s.c.wt a b k).ld) := h.ok (c_pk a b k) (l_c_pk h0 h1 h2)
theorem l_c_se {s : Wo} {a b k : Nat} (h0 : a < 3) (h1 : b < 3) (h2 : k < 3) (h3 : (s.c.se a b k).isSome = true) : Lv s (c_se a b k) := ⟨h0, h1, h2, h3⟩
theorem R.gc_se {A ad : Ro → Nat} {s : Wo} {w : Hp} (h : R A ad s w) {a b k : Nat} (h0 : a < 3) (h1 : b < 3) (h2 : k < 3) (h3 : (s.c.se a b k).isSome = true) : ∀ z, s.c.se a b k = some z → w (ad (c_se a b k)) = some (.inr (6, [.int z.idx, .int z.oth, .int z.made, .int z.snd_, .int z.rcv, .int z.beg, rf (ad (c_sn a b k)), .int z.sl, .int z.top, .int z.took])) := h.ok (c_se a b k) (l_c_se h0 h1 h2 h3)
theorem l_c_sn {s : Wo} {a b k : Nat} (h0 : a < 3) (h1 : b < 3) (h2 : k < 3) (h3 : (s.c.se a b k).isSome = true) : Lv s (c_sn a b k) := ⟨h0, h1, h2, h3⟩
theorem R.gc_sn {A ad : Ro → Nat} {s : Wo} {w : Hp} (h : R A ad s w) {a b k : Nat} (h0 : a < 3) (h1 : b < 3) (h2 : k < 3) (h3 : (s.c.se a b k).isSome = true) : ∀ z, s.c.se a b k = some z → w (ad (c_sn a b k)) = some (aE 1 40 z.seen) := h.ok (c_sn a b k) (l_c_sn h0 h1 h2 h3)
theorem l_c_fl {s : Wo} {a b : Nat} (h0 : a < 3) (h1 : b < 3) (h2 : (s.c.fl a b).isSome = true) : Lv s (c_fl a b) := ⟨h0, h1, h2, rfl⟩
theorem R.gc_fl {A ad : Ro → Nat} {s : Wo} {w : Hp} (h : R A ad s w) {a b : Nat} (h0 : a < 3) (h1 : b < 3) (h2 : (s.c.fl a b).isSome = true) : ∀ z, s.c.fl a b = some z → w (ad (c_fl a b)) = some (.inr (5, [.int z.idx, .int z.sec, .int z.key, .int z.tag, .int z.at_])) := h.ok (c_fl a b) (l_c_fl h0 h1 h2)
theorem l_c_lts {s : Wo} : Lv s c_lts := ⟨rfl, rfl, rfl⟩
theorem R.gc_lts {A ad : Ro → Nat} {s : Wo} {w : Hp} (h : R A ad s w) : okL (w (ad c_lts)) (s.ow 0) (ad c_lta) (ad c_e) s.c.nl := h.ok c_lts (l_c_lts)
theorem l_c_lta {s : Wo} (h0 : s.ow 0 = true) : Lv s c_lta := ⟨h0, rfl, rfl, rfl⟩
theorem R.gc_lta {A ad : Ro → Nat} {s : Wo} {w : Hp} (h : R A ad s w) (h0 : s.ow 0 = true) : okD (w (ad c_lta)) s.c.nl (fun i => ad (c_lt i)) := h.ok c_lta (l_c_lta h0)
theorem l_c_lt {s : Wo} {a : Nat} (h0 : a < s.c.nl) : Lv s (c_lt a) := ⟨h0, rfl, rfl⟩
theorem R.gc_lt {A ad : Ro → Nat} {s : Wo} {w : Hp} (h : R A ad s w) {a : Nat} (h0 : a < s.c.nl) : ∃ sent : Int32, w (ad (c_lt a)) = some (.inr (4, [.int (s.c.lt a).from_, .int (s.c.lt a).to_, .int (s.c.lt a).kind, .int (s.c.lt a).key, rf (ad (c_lf a)), .int (s.c.lt a).tn, .int sent])) ∧ ((s.c.lt a).tn ≠ -1 → sent = (s.c.lt a).g (s.c.lt a).tn.toNatClampNeg) := h.ok (c_lt a) (l_c_lt h0)
theorem l_c_lf {s : Wo} {a : Nat} (h0 : a < s.c.nl) : Lv s (c_lf a) := ⟨h0, rfl, rfl⟩
theorem R.gc_lf {A ad : Ro → Nat} {s : Wo} {w : Hp} (h : R A ad s w) {a : Nat} (h0 : a < s.c.nl) : okA (w (ad (c_lf a))) 0 6 (fun f => ∀ j, j < 6 → f j = (s.c.lt a).f j) := h.ok (c_lf a) (l_c_lf h0)
theorem l_c_rws {s : Wo} : Lv s c_rws := ⟨rfl, rfl, rfl⟩
theorem R.gc_rws {A ad : Ro → Nat} {s : Wo} {w : Hp} (h : R A ad s w) : okL (w (ad c_rws)) (s.ow 1) (ad c_rwa) (ad c_e) 3 := h.ok c_rws (l_c_rws)
theorem l_c_rwa {s : Wo} (h0 : s.ow 1 = true) : Lv s c_rwa := ⟨h0, rfl, rfl, rfl⟩
theorem R.gc_rwa {A ad : Ro → Nat} {s : Wo} {w : Hp} (h : R A ad s w) (h0 : s.ow 1 = true) : okD (w (ad c_rwa)) 3 (fun i => ad (c_rw i)) := h.ok c_rwa (l_c_rwa h0)
theorem l_c_rw {s : Wo} {a : Nat} (h0 : a < 3) : Lv s (c_rw a) := ⟨h0, rfl, rfl⟩
theorem R.gc_rw {A ad : Ro → Nat} {s : Wo} {w : Hp} (h : R A ad s w) {a : Nat} (h0 : a < 3) : okL (w (ad (c_rw a))) (s.ow (2 + a)) (ad (c_rwd a)) (ad c_e) (s.c.po a).length := h.ok (c_rw a) (l_c_rw h0)
theorem l_c_rwd {s : Wo} {a : Nat} (h0 : a < 3) (h1 : s.ow (2 + a) = true) : Lv s (c_rwd a) := ⟨h0, h1, rfl, rfl⟩
theorem R.gc_rwd {A ad : Ro → Nat} {s : Wo} {w : Hp} (h : R A ad s w) {a : Nat} (h0 : a < 3) (h1 : s.ow (2 + a) = true) : okD (w (ad (c_rwd a))) (s.c.po a).length (fun i => ad (c_rp a i)) := h.ok (c_rwd a) (l_c_rwd h0 h1)
theorem l_c_rp {s : Wo} {a b : Nat} (h0 : a < 3) (h1 : b < (s.c.po a).length) : Lv s (c_rp a b) := ⟨h0, h1, rfl⟩
theorem R.gc_rp {A ad : Ro → Nat} {s : Wo} {w : Hp} (h : R A ad s w) {a b : Nat} (h0 : a < 3) (h1 : b < (s.c.po a).length) : okA (w (ad (c_rp a b))) 0 4 (fun f => ∀ g, (s.c.po a)[b]? = some g → f 0 = g.peer ∧ f 1 = g.src ∧ f 2 = g.dst ∧ f 3 = g.ld) := h.ok (c_rp a b) (l_c_rp h0 h1)
theorem l_c_co {s : Wo} : Lv s c_co := ⟨rfl, rfl, rfl⟩
theorem R.gc_co {A ad : Ro → Nat} {s : Wo} {w : Hp} (h : R A ad s w) : w (ad c_co) = some (aE 0 11 s.c.co) := h.ok c_co (l_c_co)
theorem l_c_e {s : Wo} : Lv s c_e := ⟨rfl, rfl, rfl⟩
theorem R.gc_e {A ad : Ro → Nat} {s : Wo} {w : Hp} (h : R A ad s w) : w (ad c_e) = some roE := h.ok c_e (l_c_e)
theorem l_m_top {s : Wo} : Lv s m_top := ⟨rfl, rfl, rfl⟩
theorem R.gm_top {A ad : Ro → Nat} {s : Wo} {w : Hp} (h : R A ad s w) : w (ad m_top) = some (.inr (3, [.int s.m.now, .int (nI (s.m.made + 1)), .int s.th, .int s.m.dlv, rf (ad m_addr), rf (ad m_rou), rf (ad m_outs), rf (ad m_co), rf (ad m_ld), rf (ad m_rt0), rf (ad (m_mx 0)), rf (ad (m_mx 1)), rf (ad (m_mx 2)), rf (ad (m_mx 3)), rf (ad (m_mx 4)), rf (ad (m_mx 5)), rf (ad (m_mx 6)), rf (ad (m_mx 7)), rf (ad (m_mx 8)), rf (ad (m_mx 9)), rf (ad m_pk0), rf (ad m_se0), rf (ad m_tk0), rf (ad m_le), .int (nI s.m.nl), rf (ad m_out), .long s.sm])) := h.ok m_top (l_m_top)
theorem l_m_addr {s : Wo} : Lv s m_addr := ⟨rfl, rfl, rfl⟩
theorem R.gm_addr {A ad : Ro → Nat} {s : Wo} {w : Hp} (h : R A ad s w) : w (ad m_addr) = some (aE 0 3 s.m.addr) := h.ok m_addr (l_m_addr)
theorem l_m_rou {s : Wo} : Lv s m_rou := ⟨rfl, rfl, rfl⟩
theorem R.gm_rou {A ad : Ro → Nat} {s : Wo} {w : Hp} (h : R A ad s w) : okA (w (ad m_rou)) 0 3 (fun f => ∀ e, e < 3 → f e = nI (s.m.nr e)) := h.ok m_rou (l_m_rou)
theorem l_m_outs {s : Wo} : Lv s m_outs := ⟨rfl, rfl, rfl⟩
theorem R.gm_outs {A ad : Ro → Nat} {s : Wo} {w : Hp} (h : R A ad s w) : okA (w (ad m_outs)) 0 3 (fun f => ∀ e, e < 3 → f e = nI (s.m.po e).length) := h.ok m_outs (l_m_outs)
theorem l_m_co {s : Wo} : Lv s m_co := ⟨rfl, rfl, rfl⟩
theorem R.gm_co {A ad : Ro → Nat} {s : Wo} {w : Hp} (h : R A ad s w) : w (ad m_co) = some (aE 0 11 s.m.co) := h.ok m_co (l_m_co)
theorem l_m_ld {s : Wo} : Lv s m_ld := ⟨rfl, rfl, rfl⟩
theorem R.gm_ld {A ad : Ro → Nat} {s : Wo} {w : Hp} (h : R A ad s w) : w (ad m_ld) = some (aE 1 3 s.m.load) := h.ok m_ld (l_m_ld)
theorem l_m_rt0 {s : Wo} : Lv s m_rt0 := ⟨rfl, rfl, rfl⟩
theorem R.gm_rt0 {A ad : Ro → Nat} {s : Wo} {w : Hp} (h : R A ad s w) : okP (w (ad m_rt0)) 8 3 3 (fun e => ad (m_rt1 e)) := h.ok m_rt0 (l_m_rt0)
theorem l_m_rt1 {s : Wo} {a : Nat} (h0 : a < 3) : Lv s (m_rt1 a) := ⟨h0, rfl, rfl⟩
theorem R.gm_rt1 {A ad : Ro → Nat} {s : Wo} {w : Hp} (h : R A ad s w) {a : Nat} (h0 : a < 3) : okP (w (ad (m_rt1 a))) 7 8 (s.m.nr a) (fun k => ad (m_rt2 a k)) := h.ok (m_rt1 a) (l_m_rt1 h0)
theorem l_m_rt2 {s : Wo} {a b : Nat} (h0 : a < 3) (h1 : b < s.m.nr a) : Lv s (m_rt2 a b) := ⟨h0, h1, rfl⟩
theorem R.gm_rt2 {A ad : Ro → Nat} {s : Wo} {w : Hp} (h : R A ad s w) {a b : Nat} (h0 : a < 3) (h1 : b < s.m.nr a) : okA (w (ad (m_rt2 a b))) 0 3 (fun f => f 0 = (s.m.rt a b).pfx ∧ f 1 = (s.m.rt a b).bits ∧ f 2 = (s.m.rt a b).peer) := h.ok (m_rt2 a b) (l_m_rt2 h0 h1)
theorem l_m_mx {s : Wo} {a : Nat} (h0 : a < 10) : Lv s (m_mx a) := ⟨h0, rfl, rfl⟩
theorem R.gm_mx {A ad : Ro → Nat} {s : Wo} {w : Hp} (h : R A ad s w) {a : Nat} (h0 : a < 10) : okP (w (ad (m_mx a))) 7 3 3 (fun b => ad (m_mxr a b)) := h.ok (m_mx a) (l_m_mx h0)
theorem l_m_mxr {s : Wo} {a b : Nat} (h0 : a < 10) (h1 : b < 3) : Lv s (m_mxr a b) := ⟨h0, h1, rfl⟩
theorem R.gm_mxr {A ad : Ro → Nat} {s : Wo} {w : Hp} (h : R A ad s w) {a b : Nat} (h0 : a < 10) (h1 : b < 3) : okA (w (ad (m_mxr a b))) 0 3 (fun f => ∀ i, i < 3 → mxok s.m a b i (f i)) := h.ok (m_mxr a b) (l_m_mxr h0 h1)
theorem l_m_pk0 {s : Wo} : Lv s m_pk0 := ⟨rfl, rfl, rfl⟩
theorem R.gm_pk0 {A ad : Ro → Nat} {s : Wo} {w : Hp} (h : R A ad s w) : okP (w (ad m_pk0)) 9 3 3 (fun a => ad (m_pk1 a)) := h.ok m_pk0 (l_m_pk0)
theorem l_m_pk1 {s : Wo} {a : Nat} (h0 : a < 3) : Lv s (m_pk1 a) := ⟨h0, rfl, rfl⟩
theorem R.gm_pk1 {A ad : Ro → Nat} {s : Wo} {w : Hp} (h : R A ad s w) {a : Nat} (h0 : a < 3) : okP (w (ad (m_pk1 a))) 8 3 3 (fun b => ad (m_pk2 a b)) := h.ok (m_pk1 a) (l_m_pk1 h0)
theorem l_m_pk2 {s : Wo} {a b : Nat} (h0 : a < 3) (h1 : b < 3) : Lv s (m_pk2 a b) := ⟨h0, h1, rfl⟩
theorem R.gm_pk2 {A ad : Ro → Nat} {s : Wo} {w : Hp} (h : R A ad s w) {a b : Nat} (h0 : a < 3) (h1 : b < 3) : okP (w (ad (m_pk2 a b))) 7 4 (s.m.nw a b) (fun k => ad (m_pk3 a b k)) := h.ok (m_pk2 a b) (l_m_pk2 h0 h1)
theorem l_m_pk3 {s : Wo} {a b k : Nat} (h0 : a < 3) (h1 : b < 3) (h2 : k < s.m.nw a b) : Lv s (m_pk3 a b k) := ⟨h0, h1, h2⟩
theorem R.gm_pk3 {A ad : Ro → Nat} {s : Wo} {w : Hp} (h : R A ad s w) {a b k : Nat} (h0 : a < 3) (h1 : b < 3) (h2 : k < s.m.nw a b) : okA (w (ad (m_pk3 a b k))) 0 3 (fun f => f 0 = (s.m.wt a b k).src ∧ f 1 = (s.m.wt a b k).dst ∧ f 2 = (s.m.wt a b k).ld) := h.ok (m_pk3 a b k) (l_m_pk3 h0 h1 h2)
theorem l_m_se0 {s : Wo} : Lv s m_se0 := ⟨rfl, rfl, rfl⟩
theorem R.gm_se0 {A ad : Ro → Nat} {s : Wo} {w : Hp} (h : R A ad s w) : okP (w (ad m_se0)) 9 3 3 (fun a => ad (m_se1 a)) := h.ok m_se0 (l_m_se0)
theorem l_m_se1 {s : Wo} {a : Nat} (h0 : a < 3) : Lv s (m_se1 a) := ⟨h0, rfl, rfl⟩
theorem R.gm_se1 {A ad : Ro → Nat} {s : Wo} {w : Hp} (h : R A ad s w) {a : Nat} (h0 : a < 3) : okP (w (ad (m_se1 a))) 8 3 3 (fun b => ad (m_se2 a b)) := h.ok (m_se1 a) (l_m_se1 h0)
theorem l_m_se2 {s : Wo} {a b : Nat} (h0 : a < 3) (h1 : b < 3) : Lv s (m_se2 a b) := ⟨h0, h1, rfl⟩
theorem R.gm_se2 {A ad : Ro → Nat} {s : Wo} {w : Hp} (h : R A ad s w) {a b : Nat} (h0 : a < 3) (h1 : b < 3) : okP (w (ad (m_se2 a b))) 7 3 3 (fun k => ad (m_se3 a b k)) := h.ok (m_se2 a b) (l_m_se2 h0 h1)
theorem l_m_se3 {s : Wo} {a b k : Nat} (h0 : a < 3) (h1 : b < 3) (h2 : k < 3) : Lv s (m_se3 a b k) := ⟨h0, h1, h2⟩
theorem R.gm_se3 {A ad : Ro → Nat} {s : Wo} {w : Hp} (h : R A ad s w) {a b k : Nat} (h0 : a < 3) (h1 : b < 3) (h2 : k < 3) : okA (w (ad (m_se3 a b k))) 0 9 (fun f => (s.m.se a b k = none → f 0 = 0) ∧ ∀ z, s.m.se a b k = some z → okSes z f) := h.ok (m_se3 a b k) (l_m_se3 h0 h1 h2)
theorem l_m_tk0 {s : Wo} : Lv s m_tk0 := ⟨rfl, rfl, rfl⟩
theorem R.gm_tk0 {A ad : Ro → Nat} {s : Wo} {w : Hp} (h : R A ad s w) : okP (w (ad m_tk0)) 12 3 3 (fun a => ad (m_tk1 a)) := h.ok m_tk0 (l_m_tk0)
theorem l_m_tk1 {s : Wo} {a : Nat} (h0 : a < 3) : Lv s (m_tk1 a) := ⟨h0, rfl, rfl⟩
theorem R.gm_tk1 {A ad : Ro → Nat} {s : Wo} {w : Hp} (h : R A ad s w) {a : Nat} (h0 : a < 3) : okP (w (ad (m_tk1 a))) 11 3 3 (fun b => ad (m_tk2 a b)) := h.ok (m_tk1 a) (l_m_tk1 h0)
theorem l_m_tk2 {s : Wo} {a b : Nat} (h0 : a < 3) (h1 : b < 3) : Lv s (m_tk2 a b) := ⟨h0, h1, rfl⟩
theorem R.gm_tk2 {A ad : Ro → Nat} {s : Wo} {w : Hp} (h : R A ad s w) {a b : Nat} (h0 : a < 3) (h1 : b < 3) : okP (w (ad (m_tk2 a b))) 10 3 3 (fun k => ad (m_tk3 a b k)) := h.ok (m_tk2 a b) (l_m_tk2 h0 h1)
theorem l_m_tk3 {s : Wo} {a b k : Nat} (h0 : a < 3) (h1 : b < 3) (h2 : k < 3) : Lv s (m_tk3 a b k) := ⟨h0, h1, h2⟩
theorem R.gm_tk3 {A ad : Ro → Nat} {s : Wo} {w : Hp} (h : R A ad s w) {a b k : Nat} (h0 : a < 3) (h1 : b < 3) (h2 : k < 3) : okA (w (ad (m_tk3 a b k))) 1 40 (fun f => ∀ z, s.m.se a b k = some z → f = z.seen) := h.ok (m_tk3 a b k) (l_m_tk3 h0 h1 h2)
theorem l_m_le {s : Wo} : Lv s m_le := ⟨rfl, rfl, rfl⟩
theorem R.gm_le {A ad : Ro → Nat} {s : Wo} {w : Hp} (h : R A ad s w) : okP (w (ad m_le)) 7 60 s.m.nl (fun i => ad (m_le1 i)) := h.ok m_le (l_m_le)
theorem l_m_le1 {s : Wo} {a : Nat} (h0 : a < s.m.nl) : Lv s (m_le1 a) := ⟨h0, rfl, rfl⟩
theorem R.gm_le1 {A ad : Ro → Nat} {s : Wo} {w : Hp} (h : R A ad s w) {a : Nat} (h0 : a < s.m.nl) : okA (w (ad (m_le1 a))) 0 16 (fun f => okLet (s.m.lt a) f) := h.ok (m_le1 a) (l_m_le1 h0)
theorem l_m_out {s : Wo} : Lv s m_out := ⟨rfl, rfl, rfl⟩
theorem R.gm_out {A ad : Ro → Nat} {s : Wo} {w : Hp} (h : R A ad s w) : okP (w (ad m_out)) 7 s.m.go.length s.m.go.length (fun i => ad (m_ou1 i)) := h.ok m_out (l_m_out)
theorem l_m_ou1 {s : Wo} {a : Nat} (h0 : a < s.m.go.length) : Lv s (m_ou1 a) := ⟨h0, rfl, rfl⟩
theorem R.gm_ou1 {A ad : Ro → Nat} {s : Wo} {w : Hp} (h : R A ad s w) {a : Nat} (h0 : a < s.m.go.length) : okA (w (ad (m_ou1 a))) 0 5 (fun f => ∀ g, s.m.go[a]? = some g → f 0 = nI g.e ∧ f 1 = g.peer ∧ f 2 = g.src ∧ f 3 = g.dst ∧ f 4 = g.ld) := h.ok (m_ou1 a) (l_m_ou1 h0)
theorem l_m_o {s : Wo} : Lv s m_o := ⟨rfl, rfl, rfl⟩
theorem R.gm_o {A ad : Ro → Nat} {s : Wo} {w : Hp} (h : R A ad s w) : ∃ f : Nat → Int64, w (ad m_o) = some (.inl (2, 1, .inr (.inl f))) ∧ f 0 = s.o := h.ok m_o (l_m_o)
theorem OkC.some {c : Sg} {ow : Nat → Bool} {ad : Ro → Nat} {w : Option hE} {r : Rq} (hl : LvC c ow r) (h : OkC c ow ad w r) : ∃ e, w = some e := by
  obtain ⟨t, a, b, k⟩ := r
  match t, hl, h with
  | 0, hl, h => exact ⟨_, h⟩
  | 1, hl, h => exact ⟨_, h⟩
  | 2, hl, h => exact ⟨_, h⟩
  | 3, hl, h => obtain ⟨_, h1, -⟩ := h; exact ⟨_, h1⟩
  | 4, hl, h => exact ⟨_, h⟩
  | 5, hl, h => obtain ⟨_, h1, -⟩ := h; exact ⟨_, h1⟩
  | 6, hl, h => obtain ⟨_, h1, -⟩ := h; exact ⟨_, h1⟩
  | 7, hl, h => obtain ⟨_, h1, -⟩ := h; exact ⟨_, h1⟩
  | 8, hl, h => obtain ⟨_, h1, -⟩ := h; exact ⟨_, h1⟩
  | 9, hl, h => obtain ⟨_, h1, -⟩ := h; exact ⟨_, h1⟩
  | 10, hl, h => exact ⟨_, h⟩
  | 11, hl, h => obtain ⟨_, h1, -⟩ := h; exact ⟨_, h1⟩
  | 12, hl, h => obtain ⟨_, h1, -⟩ := h; exact ⟨_, h1⟩
  | 13, hl, h => obtain ⟨-, -, -, h1⟩ := hl; obtain ⟨z, hz⟩ := Option.isSome_iff_exists.mp h1; exact ⟨_, h z hz⟩
  | 14, hl, h => obtain ⟨-, -, -, h1⟩ := hl; obtain ⟨z, hz⟩ := Option.isSome_iff_exists.mp h1; exact ⟨_, h z hz⟩
  | 15, hl, h => obtain ⟨-, -, h1, -⟩ := hl; obtain ⟨z, hz⟩ := Option.isSome_iff_exists.mp h1; exact ⟨_, h z hz⟩
  | 16, hl, h => obtain ⟨_, h1, -⟩ := h; exact ⟨_, h1⟩
  | 17, hl, h => obtain ⟨_, _, h1, -⟩ := h; exact ⟨_, h1⟩
  | 18, hl, h => obtain ⟨_, h1, -⟩ := h; exact ⟨_, h1⟩
  | 19, hl, h => obtain ⟨_, h1, -⟩ := h; exact ⟨_, h1⟩
  | 20, hl, h => obtain ⟨_, h1, -⟩ := h; exact ⟨_, h1⟩
  | 21, hl, h => obtain ⟨_, _, h1, -⟩ := h; exact ⟨_, h1⟩
  | 22, hl, h => obtain ⟨_, h1, -⟩ := h; exact ⟨_, h1⟩
  | 23, hl, h => obtain ⟨_, _, h1, -⟩ := h; exact ⟨_, h1⟩
  | 24, hl, h => obtain ⟨_, h1, -⟩ := h; exact ⟨_, h1⟩
  | 25, hl, h => exact ⟨_, h⟩
  | 26, hl, h => exact ⟨_, h⟩
  | n + 27, hl, _ => exact hl.elim
theorem OkM.some {c : Sg} {th : Int32} {sm o9 : Int64} {ad : Ro → Nat} {w : Option hE} {r : Rq} (hl : LvM c r) (h : OkM c th sm o9 ad w r) : ∃ e, w = some e := by
  obtain ⟨t, a, b, k⟩ := r
  match t, hl, h with
  | 0, hl, h => exact ⟨_, h⟩
  | 1, hl, h => exact ⟨_, h⟩
  | 2, hl, h => obtain ⟨_, h1, -⟩ := h; exact ⟨_, h1⟩
  | 3, hl, h => obtain ⟨_, h1, -⟩ := h; exact ⟨_, h1⟩
  | 4, hl, h => exact ⟨_, h⟩
  | 5, hl, h => exact ⟨_, h⟩
  | 6, hl, h => obtain ⟨_, h1, -⟩ := h; exact ⟨_, h1⟩
  | 7, hl, h => obtain ⟨_, h1, -⟩ := h; exact ⟨_, h1⟩
  | 8, hl, h => obtain ⟨_, h1, -⟩ := h; exact ⟨_, h1⟩
  | 9, hl, h => obtain ⟨_, h1, -⟩ := h; exact ⟨_, h1⟩
  | 10, hl, h => obtain ⟨_, h1, -⟩ := h; exact ⟨_, h1⟩
  | 11, hl, h => obtain ⟨_, h1, -⟩ := h; exact ⟨_, h1⟩
  | 12, hl, h => obtain ⟨_, h1, -⟩ := h; exact ⟨_, h1⟩
  | 13, hl, h => obtain ⟨_, h1, -⟩ := h; exact ⟨_, h1⟩
  | 14, hl, h => obtain ⟨_, h1, -⟩ := h; exact ⟨_, h1⟩
  | 15, hl, h => obtain ⟨_, h1, -⟩ := h; exact ⟨_, h1⟩
  | 16, hl, h => obtain ⟨_, h1, -⟩ := h; exact ⟨_, h1⟩
  | 17, hl, h => obtain ⟨_, h1, -⟩ := h; exact ⟨_, h1⟩
  | 18, hl, h => obtain ⟨_, h1, -⟩ := h; exact ⟨_, h1⟩
  | 19, hl, h => obtain ⟨_, h1, -⟩ := h; exact ⟨_, h1⟩
  | 20, hl, h => obtain ⟨_, h1, -⟩ := h; exact ⟨_, h1⟩
  | 21, hl, h => obtain ⟨_, h1, -⟩ := h; exact ⟨_, h1⟩
  | 22, hl, h => obtain ⟨_, h1, -⟩ := h; exact ⟨_, h1⟩
  | 23, hl, h => obtain ⟨_, h1, -⟩ := h; exact ⟨_, h1⟩
  | 24, hl, h => obtain ⟨_, h1, -⟩ := h; exact ⟨_, h1⟩
  | 25, hl, h => obtain ⟨_, h1, -⟩ := h; exact ⟨_, h1⟩
  | 26, hl, h => obtain ⟨_, h1, -⟩ := h; exact ⟨_, h1⟩
  | 27, hl, h => obtain ⟨_, h1, -⟩ := h; exact ⟨_, h1⟩
  | n + 28, hl, _ => exact hl.elim
theorem Ok.some {s : Wo} {ad : Ro → Nat} {w : Option hE} {r : Ro} (hl : Lv s r) (h : Ok s ad w r) : ∃ e, w = some e := match r, hl, h with
  | .inl _, hl, h => OkC.some hl h
  | .inr _, hl, h => OkM.some hl h
theorem R.has {A ad : Ro → Nat} {s : Wo} {w : Hp} (h : R A ad s w) {r : Ro} (hl : Lv s r) : ∃ e, w (ad r) = some e := Ok.some hl (h.ok r hl)
/-- behind a write into the cell of the role r -/
theorem R.wr {A ad : Ro → Nat} {s s' : Wo} {w : Hp} (h : R A ad s w) {r : Ro} (hl : Lv s r) {e : hE} (he : e ≠ roE) (hL : ∀ r', Lv s' r' → Lv s r') (hok : Ok s' ad (Option.some e) r) (hoth : ∀ r' x, r' ≠ r → Lv s' r' → Ok s ad x r' → Ok s' ad x r') : R A ad s' (hu w (ad r) e) := by
  refine ⟨h.st, fun r1 r2 h1 h2 => h.inj r1 r2 (hL _ h1) (hL _ h2), fun r1 h1 => ?_, fun a ha => ?_⟩
  · by_cases hx : r1 = r
    · subst hx; rw [hu_s]; exact hok
    · rw [hu_n (fun z => hx (h.inj _ _ (hL _ h1) hl z))]
      exact hoth r1 _ hx h1 (h.ok r1 (hL _ h1))
  · by_cases hx : a = ad r
    · subst hx; rw [hu_s] at ha; exact absurd (Option.some.inj ha) he
    · rw [hu_n hx] at ha; exact h.ro a ha
/-- behind a write into a cell that nobody keeps -/
theorem R.junk {A ad : Ro → Nat} {s : Wo} {w : Hp} (h : R A ad s w) {a : Nat} {e : hE} (ha : ∀ r, Lv s r → ad r ≠ a) (he : e ≠ roE) : R A ad s (hu w a e) := by
  refine ⟨h.st, h.inj, fun r1 h1 => ?_, fun b hb => ?_⟩
  · rw [hu_n (ha r1 h1)]; exact h.ok r1 h1
  · by_cases hx : b = a
    · subst hx; rw [hu_s] at hb; exact absurd (Option.some.inj hb) he
    · rw [hu_n hx] at hb; exact h.ro b hb
theorem R.apart {A ad : Ro → Nat} {s : Wo} {w : Hp} (h : R A ad s w) {a : Nat} (ha : w a = none) : ∀ r, Lv s r → ad r ≠ a := by
  intro r hl z
  obtain ⟨e1, h2⟩ := h.has hl
  rw [z, ha] at h2; cases h2
/-- behind a cell made that nobody keeps -/
theorem R.fresh {A ad : Ro → Nat} {s : Wo} {w : Hp} (h : R A ad s w) {a : Nat} {e : hE} (ha : w a = none) (he : e ≠ roE) : R A ad s (hu w a e) := h.junk (h.apart ha) he
/-- the same cells under other names, for another state -/
theorem R.re {A ad ad' : Ro → Nat} {s s' : Wo} {w : Hp} (h : R A ad s w) (hst : ∀ r, stc r = true → ad' r = ad r) (hinj : ∀ r r', Lv s' r → Lv s' r' → ad' r = ad' r' → r = r') (hok : ∀ r, Lv s' r → Ok s' ad' (w (ad' r)) r) : R A ad' s' w :=
  ⟨fun r hr => (hst r hr).trans (h.st r hr), hinj, hok, fun a ha => (h.ro a ha).trans (hst c_e rfl).symm⟩
theorem R.wrC {A ad : Ro → Nat} {s : Wo} {w : Hp} (h : R A ad s w) (c' : Sg) (ow' : Nat → Bool) {r : Rq} (hl : LvC s.c s.ow r) {e : hE} (he : e ≠ roE) (hL : ∀ r', LvC c' ow' r' → LvC s.c s.ow r') (hok : OkC c' ow' ad (Option.some e) r) (hoth : ∀ r' x, r' ≠ r → LvC c' ow' r' → OkC s.c s.ow ad x r' → OkC c' ow' ad x r') : R A ad ((s.s_c c').s_ow ow') (hu w (ad (.inl r)) e) := by
  refine h.wr (r := .inl r) hl he ?_ hok ?_
  · rintro (r' | r') hl'
    · exact hL r' hl'
    · exact hl'
  · rintro (r' | r') x hne hl' h'
    · exact hoth r' x (fun z => hne (congrArg Sum.inl z)) hl' h'
    · exact h'
theorem R.wrM {A ad : Ro → Nat} {s : Wo} {w : Hp} (h : R A ad s w) (c' : Sg) (th' : Int32) (sm' o' : Int64) {r : Rq} (hl : LvM s.m r) {e : hE} (he : e ≠ roE) (hL : ∀ r', LvM c' r' → LvM s.m r') (hok : OkM c' th' sm' o' ad (Option.some e) r) (hoth : ∀ r' x, r' ≠ r → LvM c' r' → OkM s.m s.th s.sm s.o ad x r' → OkM c' th' sm' o' ad x r') : R A ad ((((s.s_m c').s_th th').s_sm sm').s_o o') (hu w (ad (.inr r)) e) := by
  refine h.wr (r := .inr r) hl he ?_ hok ?_
  · rintro (r' | r') hl'
    · exact hl'
    · exact hL r' hl'
  · rintro (r' | r') x hne hl' h'
    · exact h'
    · exact hoth r' x (fun z => hne (congrArg Sum.inr z)) hl' h'

theorem OkC.congr {c : Sg} {ow : Nat → Bool} {ad ad' : Ro → Nat} {w : Option hE} {r : Rq} (e : ∀ q, ad' (.inl q) = ad (.inl q)) (h : OkC c ow ad w r) : OkC c ow ad' w r := by
  obtain ⟨t, a, b, k⟩ := r
  match t, h with
  | 0, h => simpa only [OkC, e] using h
  | 1, h => exact h
  | 2, h => exact h
  | 3, h => simpa only [OkC, e] using h
  | 4, h => simpa only [OkC, e] using h
  | 5, h => exact h
  | 6, h => exact h
  | 7, h => exact h
  | 8, h => simpa only [OkC, e] using h
  | 9, h => simpa only [OkC, e] using h
  | 10, h => simpa only [OkC, e] using h
  | 11, h => simpa only [OkC, e] using h
  | 12, h => exact h
  | 13, h => simpa only [OkC, e] using h
  | 14, h => exact h
  | 15, h => exact h
  | 16, h => simpa only [OkC, e] using h
  | 17, h => simpa only [OkC, e] using h
  | 18, h => simpa only [OkC, e] using h
  | 19, h => exact h
  | 20, h => simpa only [OkC, e] using h
  | 21, h => simpa only [OkC, e] using h
  | 22, h => simpa only [OkC, e] using h
  | 23, h => simpa only [OkC, e] using h
  | 24, h => exact h
  | 25, h => exact h
  | 26, h => exact h
  | n + 27, h => exact h.elim
theorem OkM.congr {c : Sg} {th : Int32} {sm o9 : Int64} {ad ad' : Ro → Nat} {w : Option hE} {r : Rq} (e : ∀ q, ad' (.inr q) = ad (.inr q)) (h : OkM c th sm o9 ad w r) : OkM c th sm o9 ad' w r := by
  obtain ⟨t, a, b, k⟩ := r
  match t, h with
  | 0, h => simpa only [OkM, e] using h
  | 1, h => exact h
  | 2, h => exact h
  | 3, h => exact h
  | 4, h => exact h
  | 5, h => exact h
  | 6, h => simpa only [OkM, e] using h
  | 7, h => simpa only [OkM, e] using h
  | 8, h => exact h
  | 9, h => simpa only [OkM, e] using h
  | 10, h => exact h
  | 11, h => simpa only [OkM, e] using h
  | 12, h => simpa only [OkM, e] using h
  | 13, h => simpa only [OkM, e] using h
  | 14, h => exact h
  | 15, h => simpa only [OkM, e] using h
  | 16, h => simpa only [OkM, e] using h
  | 17, h => simpa only [OkM, e] using h
  | 18, h => exact h
  | 19, h => simpa only [OkM, e] using h
  | 20, h => simpa only [OkM, e] using h
  | 21, h => simpa only [OkM, e] using h
  | 22, h => exact h
  | 23, h => simpa only [OkM, e] using h
  | 24, h => exact h
  | 25, h => simpa only [OkM, e] using h
  | 26, h => exact h
  | 27, h => exact h
  | n + 28, h => exact h.elim
