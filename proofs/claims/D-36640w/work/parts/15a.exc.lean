/-! the words of a throw, by their places (printed by gen/mkexc.py) -/
set_option maxRecDepth 100000
theorem hx_hat {L : List Cond} (ps : List Nat) (h1 : L = ps.filterMap (fun i => lw_tbl[i]?)) (h2 : L.all (fun w => goodWord w || hx_rd w) = true) : ∀ w ∈ L, w ∈ lw_all ∨ (w ∈ lw_tbl ∧ hx_rd w = true) := by
  intro w hw
  have h3 := List.all_eq_true.mp h2 w hw
  rw [h1] at hw
  obtain ⟨i, -, hi⟩ := List.mem_filterMap.mp hw
  have hm : w ∈ lw_tbl := List.mem_of_getElem? hi
  rw [Bool.or_eq_true] at h3
  rcases h3 with h | h
  · exact Or.inl (lw_g hm h)
  · exact Or.inr ⟨hm, h⟩
abbrev hx_names : List String := ["java/lang/RuntimeException", "java/lang/Exception"]
theorem hx_names_fit : ∀ n ∈ hx_names, Bundle.fit n = true := by decide +kernel
theorem hat_eIO : ∀ w ∈ vx_atS "Burrowline" 262 eIO hx_names, w ∈ lw_all ∨ (w ∈ lw_tbl ∧ hx_rd w = true) := hx_hat [72, 394, 403, 409, 412, 414, 395, 396, 93, 94, 397, 402, 410, 427, 384, 428, 386, 429, 388, 398, 400, 390, 516, 517, 426, 390, 546, 547, 548, 510, 376, 510, 511, 512, 513, 378, 513, 514, 515, 516, 380, 582, 573, 574, 575, 408, 576, 577, 578, 579, 393, 392, 580] (by decide +kernel) (by decide +kernel)
theorem good_eIO_259 : ∀ w ∈ Cond.classLink "Burrowline" 259 eIO :: Cond.initialized eIO :: vx_atS "Burrowline" 262 eIO hx_names, vx_ot w = true := fun w h => List.all_eq_true.mp (show (Cond.classLink "Burrowline" 259 eIO :: Cond.initialized eIO :: vx_atS "Burrowline" 262 eIO hx_names).all vx_ot = true by decide +kernel) w h
theorem hat_eIA : ∀ w ∈ vx_atS "Burrowline" 55 eIA hx_names, w ∈ lw_all ∨ (w ∈ lw_tbl ∧ hx_rd w = true) := hx_hat [72, 394, 403, 409, 412, 414, 395, 396, 93, 94, 397, 402, 410, 427, 384, 428, 386, 429, 388, 398, 400, 390, 516, 517, 426, 390, 507, 508, 509, 510, 376, 510, 511, 512, 513, 378, 513, 514, 515, 516, 380, 506, 497, 498, 499, 406, 500, 501, 502, 503, 393, 392, 504] (by decide +kernel) (by decide +kernel)
theorem good_eIA_51 : ∀ w ∈ Cond.classLink "Burrowline" 51 eIA :: Cond.initialized eIA :: vx_atS "Burrowline" 55 eIA hx_names, vx_ot w = true := fun w h => List.all_eq_true.mp (show (Cond.classLink "Burrowline" 51 eIA :: Cond.initialized eIA :: vx_atS "Burrowline" 55 eIA hx_names).all vx_ot = true by decide +kernel) w h
theorem hat_eIS : ∀ w ∈ vx_atS "Burrowline" 67 eIS hx_names, w ∈ lw_all ∨ (w ∈ lw_tbl ∧ hx_rd w = true) := hx_hat [72, 394, 403, 409, 412, 414, 395, 396, 93, 94, 397, 402, 410, 427, 384, 428, 386, 429, 388, 398, 400, 390, 516, 517, 426, 390, 533, 534, 535, 510, 376, 510, 511, 512, 513, 378, 513, 514, 515, 516, 380, 532, 523, 524, 525, 407, 526, 527, 528, 529, 393, 392, 530] (by decide +kernel) (by decide +kernel)
theorem good_eIS_63 : ∀ w ∈ Cond.classLink "Burrowline" 63 eIS :: Cond.initialized eIS :: vx_atS "Burrowline" 67 eIS hx_names, vx_ot w = true := fun w h => List.all_eq_true.mp (show (Cond.classLink "Burrowline" 63 eIS :: Cond.initialized eIS :: vx_atS "Burrowline" 67 eIS hx_names).all vx_ot = true by decide +kernel) w h
