/-! THE PLAIN LAW, 20: a letter is made and sent, on the side of the objects -/
set_option maxRecDepth 100000
theorem C_letInit {w : Hp} {gO arr n : Nat} {f : Nat → Int32} {x1 x2 x3 x4 : Int32} {K : Hp → Prop} {v : List Value} (hv : v = [.int 0, .int 0, .int 0, .int 0, .null, .int 0, .int 0]) (hO : w gO = some (.inr (4, v))) (ha : w arr = some (aE 0 n f)) (hn : n ≤ 6)
    (h : ∀ (w' : Hp) (b : Nat) (ff : Nat → Int32), w b = none → w' gO = some (.inr (4, [.int x1, .int x2, .int x3, .int x4, rf b, .int (-1), .int 0])) → w' b = some (aE 0 6 ff) → (∀ j, j < 6 → ff j = if j < n then f j else 0) → (∀ q, q ≠ gO → q ≠ b → w' q = w q) → K w') : wp_X5_init w gO x1 x2 x3 x4 arr K := by
  subst hv
  refine ⟨by decide, by decide, fun b hb => ?_⟩
  have hOb : gO ≠ b := fun z => by rw [z, hb] at hO; cases hO
  have hab : arr ≠ b := fun z => by rw [z, hb] at ha; cases ha
  have haO : arr ≠ gO := fun z => by rw [z, hO] at ha; cases ha
  refine pV_to (fs := [.int 0, .int 0, .int 0, .int 0, .null, .int 0, .int 0]) [.int 0, .int 0, .int 0, .int 0, rf b, .int 0, .int 0] (by rw [hu_n hOb]; exact hO) (by decide : 4 < 7) rfl ?_
  refine pV_to [.int 0, .int 0, .int 0, .int 0, rf b, .int (-1), .int 0] hu_s (by decide : 5 < 7) rfl ?_
  refine pV_to [.int x1, .int 0, .int 0, .int 0, rf b, .int (-1), .int 0] hu_s (by decide : 0 < 7) rfl ?_
  refine pV_to [.int x1, .int x2, .int 0, .int 0, rf b, .int (-1), .int 0] hu_s (by decide : 1 < 7) rfl ?_
  refine pV_to [.int x1, .int x2, .int x3, .int 0, rf b, .int (-1), .int 0] hu_s (by decide : 2 < 7) rfl ?_
  refine pV_to [.int x1, .int x2, .int x3, .int x4, rf b, .int (-1), .int 0] hu_s (by decide : 3 < 7) rfl ?_
  rw [hu_hu, hu_hu, hu_hu, hu_hu, hu_hu]
  refine gR_of hu_s rfl ?_
  refine ⟨0, n, _, by rw [hu_n haO, hu_n hab]; exact ha, by decide, dR_of ?_⟩
  refine ⟨n, 6, f, fun _ => 0, by rw [hu_n haO, hu_n hab]; exact ha, by rw [hu_n (Ne.symm hOb), hu_s]; rfl, by decide, by decide, nI_pos (n := n) (by omega), ?_, ?_, ?_⟩
  · show (nI 0).toNatClampNeg + (nI n).toNatClampNeg ≤ n
    rw [nI_clamp (by omega), nI_clamp (by omega)]; omega
  · show (nI 0).toNatClampNeg + (nI n).toNatClampNeg ≤ 6
    rw [nI_clamp (by omega), nI_clamp (by omega)]; omega
  · refine h _ b _ hb (by rw [hu_n hOb]; exact hu_s) hu_s (fun j hj => ?_) (fun q h1 h2 => by rw [hu_n h2, hu_n h1, hu_n h2])
    show va_cpy f (fun _ => 0) (nI 0).toNatClampNeg (nI 0).toNatClampNeg (nI n).toNatClampNeg j = _
    rw [nI_clamp (by omega), nI_clamp (by omega)]
    unfold va_cpy
    by_cases q : j < n
    · rw [if_pos (by omega), if_pos q]; congr 1; omega
    · rw [if_neg (by omega), if_neg q]
def postL (x from_ : Int32) (kind key : Int32) (n : Nat) (f : Nat → Int32) : Let := Let.mk from_ x kind key (fun j => if j < n then f j else 0) (fun j => if j < n then f j else 0) (-1)
def postC (c : Sg) (L : Let) : Sg := if 60 ≤ c.nl then c else (c.s_nl (c.nl + 1)).s_lt (upd1 c.lt c.nl L)
theorem R.elem {A ad : Ro → Nat} {s : Wo} {w : Hp} (h : R A ad s w) {i : Nat} (hi : i < s.c.nl) : hAnyO w (ad (c_lt i)) := by
  obtain ⟨sent, h1, -⟩ := h.gc_lt hi
  exact ⟨_, h1, Or.inr (Or.inr ⟨rfl, Or.inl rfl⟩)⟩
theorem C_post {A ad : Ro → Nat} {s : Wo} {w : Hp} (hR : R A ad s w) {a : Nat} (ha : a < 3) {arr n : Nat} {f : Nat → Int32} (harr : w arr = some (aE 0 n f)) (hn : n ≤ 6) (h60 : s.c.nl ≤ 60) {x kind key : Int32} {K : Hp → Prop}
    (k : ∀ (w' : Hp) (ad' : Ro → Nat) (ow' : Nat → Bool), R A ad' ((s.s_c (postC s.c (postL x (s.c.addr a) kind key n f))).s_ow ow') w' → (∀ r, stc r = true → ad' r = ad r) → (∀ q, ad' (.inr q) = ad (.inr q)) → (∀ u v j, ad' (c_se u v j) = ad (c_se u v j)) → Jk s ad w ((s.s_c (postC s.c (postL x (s.c.addr a) kind key n f))).s_ow ow') ad' w' → K w') : wp_X1_post w (ad c_top) (nI a) x kind key arr K := by
  obtain ⟨mc, hL, hown⟩ := hR.gc_lts
  refine gD_of hR.gc_top rfl (isO_of hL (J_size hL ?_))
  by_cases hfull : 60 ≤ s.c.nl
  · refine ⟨fun _ => ?_, fun z => absurd (nI_le hfull (by omega)) z⟩
    have e : postC s.c (postL x (s.c.addr a) kind key n f) = s.c := if_pos hfull
    refine k w ad s.ow ?_ (fun _ _ => rfl) (fun _ => rfl) (fun _ _ _ => rfl) ?_
    · rw [e]; exact hR
    · rw [e]; exact Jk.refl
  · have hlt : s.c.nl < 60 := by omega
    refine ⟨fun z => absurd z (nI_ge (a := s.c.nl) (b := 60) hlt (by decide)), fun _ => ?_⟩
    refine gR_of hR.gc_top rfl (fun gO hgO => ?_)
    have hR1 : R A ad s (hu w gO (.inr (4, fsX5))) := hR.fresh hgO (fun z => by cases z)
    refine rd_addr hR1 ha ?_
    have har : arr ≠ gO := fun z => by rw [z, hgO] at harr; cases harr
    refine C_letInit (v := fsX5) rfl hu_s (by rw [hu_n har]; exact harr) hn (fun w2 gF ff hgF hO2 hF2 hff2 hw2 => ?_)
    have hFO : gF ≠ gO := fun z => by rw [z, hu_s] at hgF; cases hgF
    have hgF' : w gF = none := by rw [hu_n hFO] at hgF; exact hgF
    have keep : ∀ q, q ≠ gO → q ≠ gF → w2 q = w q := fun q h1 h2 => by rw [hw2 q h1 h2, hu_n h1]
    have aO := hR.apart hgO
    have aF := hR.apart hgF'
    have keepR : ∀ r, Lv s r → w2 (ad r) = w (ad r) := fun r hr => keep _ (aO r hr) (aF r hr)
    have hR2 : R A ad s w2 := by
      refine ⟨hR.st, hR.inj, fun r hr => by rw [keepR r hr]; exact hR.ok r hr, fun q hq => ?_⟩
      by_cases h1 : q = gO
      · subst h1; rw [hO2] at hq; cases hq
      · by_cases h2 : q = gF
        · subst h2; rw [hF2] at hq; cases hq
        · rw [keep q h1 h2] at hq; exact hR.ro q hq
    obtain ⟨mc2, hL2, hown2⟩ := hR2.gc_lts
    refine dR_of (isO_of hL2 ?_)
    have hsd : w2 (if s.ow 0 then ad c_lta else ad c_e) = some roE ∨ w2 (if s.ow 0 then ad c_lta else ad c_e) ≠ some roE := Classical.em _
    refine J_add (e0 := ad c_e) (el := fun j => ad (c_lt j)) (by omega) hL2 hR2.ro (fun hz => ?_) (fun hz => ?_) hsd (fun z => aO c_lts (l_c_lts (s := s)) z.symm) ⟨_, hO2, Or.inr (Or.inr ⟨rfl, Or.inl rfl⟩)⟩ (fun w3 d' cap f' hP3 hD3 hc1 hc2 hf3 hfn3 hd3 hw3 => ?_)
    · cases how : s.ow 0 with
      | false => exact ⟨hown how, by simp⟩
      | true =>
        rw [how] at hz
        obtain ⟨c9, f9, h1, -⟩ := hR2.gc_lta how
        rw [show (if true = true then ad c_lta else ad c_e) = ad c_lta from rfl, h1] at hz
        cases hz
    · cases how : s.ow 0 with
      | false =>
        rw [how] at hz
        exact absurd hR2.gc_e hz
      | true =>
        obtain ⟨c9, f9, h1, h2, h3, h4, h5⟩ := hR2.gc_lta how
        exact ⟨c9, f9, h1, h2, h3, h4, fun _ => h5, fun j hj => ⟨h5 j hj, hR2.elem hj⟩⟩
    · have hd9 : (d' = ad c_lta ∧ s.ow 0 = true) ∨ w2 d' = none := by
        rcases hd3 with ⟨h1, h2⟩ | h1
        · left
          cases how : s.ow 0 with
          | false => rw [how] at h2; exact absurd hR2.gc_e h2
          | true => rw [how] at h1; exact ⟨h1, rfl⟩
        · exact Or.inr h1
      have hadd := hR2.add_let (L := postL x (s.c.addr a) kind key n f) (sent := 0) hP3 hD3 hc1 hc2 hf3 hfn3 hd9 hO2 (fun z => absurd rfl z) hF2 hff2 aO aF hw3
      have e : postC s.c (postL x (s.c.addr a) kind key n f) = (s.c.s_nl (s.c.nl + 1)).s_lt (upd1 s.c.lt s.c.nl (postL x (s.c.addr a) kind key n f)) := if_neg hfull
      refine k w3 _ (upd1 s.ow 0 true) (by rw [e]; exact hadd) ?_ ?_ ?_ ?_
      · intro r hr
        rw [adU_n (fun z => by subst z; exact absurd (show false = true from hr) (by decide)), adU_n (fun z => by subst z; exact absurd (show false = true from hr) (by decide)), adU_n (fun z => by subst z; exact absurd (show false = true from hr) (by decide))]
      · intro q
        rw [adU_n (fun z => by cases z), adU_n (fun z => by cases z), adU_n (fun z => by cases z)]
      · intro u v j
        rw [adU_n (fun z => by cases z), adU_n (fun z => by cases z), adU_n (fun z => by cases z)]
      · rw [e]
        intro p e9 hp hap
        have pO : p ≠ gO := fun z => by rw [z, hgO] at hp; cases hp
        have pF : p ≠ gF := fun z => by rw [z, hgF'] at hp; cases hp
        have p2 : w2 p = some e9 := by rw [keep p pO pF]; exact hp
        have pd : p ≠ d' := fun z => by
          rcases hd9 with ⟨h1, h2⟩ | h1
          · exact hap c_lta (l_c_lta (s := s) h2) (by rw [← h1]; exact z.symm)
          · rw [← z, p2] at h1; cases h1
        refine ⟨by rw [hw3 p (fun z => hap c_lts (l_c_lts (s := s)) z.symm) pd]; exact p2, fun r hr => ?_⟩
        by_cases r1 : r = c_lta
        · subst r1; rw [adU_s]; exact Ne.symm pd
        · rw [adU_n r1]
          by_cases r2 : r = c_lt s.c.nl
          · subst r2; rw [adU_s]; exact Ne.symm pO
          · rw [adU_n r2]
            by_cases r3 : r = c_lf s.c.nl
            · subst r3; rw [adU_s]; exact Ne.symm pF
            · rw [adU_n r3]
              refine hap r ?_
              rcases r with q | q
              · exact LvC_add hr (fun z => by rcases z with z | z | z <;> subst z <;> contradiction)
              · exact hr
