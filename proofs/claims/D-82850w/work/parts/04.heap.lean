/-! the small machine's heap and numbers: what reads what was written -/
theorem J.gv_sv (h : J.H) (a i x b j : Int) : J.gv (J.sv h a i x) b j = if b = a ∧ j = i then x else J.gv h b j := rfl
theorem J.cl_sv (h : J.H) (a i x b : Int) : J.cl (J.sv h a i x) b = J.cl h b := rfl
theorem J.ln_sv (h : J.H) (a i x b : Int) : J.ln (J.sv h a i x) b = J.ln h b := rfl
theorem J.nx_sv (h : J.H) (a i x : Int) : J.nx (J.sv h a i x) = J.nx h := rfl
theorem J.us_sv (h : J.H) (a i x : Int) : J.us (J.sv h a i x) = J.us h := rfl
theorem J.gv_nw (h : J.H) (c : Nat) (n w b j : Int) : J.gv (J.nw h c n w) b j = if b = J.nx h then 0 else J.gv h b j := rfl
theorem J.cl_nw (h : J.H) (c : Nat) (n w b : Int) : J.cl (J.nw h c n w) b = if b = J.nx h then c else J.cl h b := rfl
theorem J.ln_nw (h : J.H) (c : Nat) (n w b : Int) : J.ln (J.nw h c n w) b = if b = J.nx h then n else J.ln h b := rfl
theorem J.nx_nw (h : J.H) (c : Nat) (n w : Int) : J.nx (J.nw h c n w) = J.nx h + 1 := rfl
theorem J.us_nw (h : J.H) (c : Nat) (n w : Int) : J.us (J.nw h c n w) = J.us h + w := rfl
theorem J.gv_cpy (h : J.H) (a i b j n x y : Int) : J.gv (J.cpy h a i b j n) x y = if x = b ∧ j ≤ y ∧ y < j + n then J.gv h a (i + (y - j)) else J.gv h x y := rfl
theorem J.cl_cpy (h : J.H) (a i b j n x : Int) : J.cl (J.cpy h a i b j n) x = J.cl h x := rfl
theorem J.ln_cpy (h : J.H) (a i b j n x : Int) : J.ln (J.cpy h a i b j n) x = J.ln h x := rfl
theorem J.nx_cpy (h : J.H) (a i b j n : Int) : J.nx (J.cpy h a i b j n) = J.nx h := rfl
theorem J.us_cpy (h : J.H) (a i b j n : Int) : J.us (J.cpy h a i b j n) = J.us h := rfl
theorem J.ext {h g : J.H} (h1 : ∀ a, J.cl h a = J.cl g a) (h2 : ∀ a, J.ln h a = J.ln g a) (h3 : ∀ a i, J.gv h a i = J.gv g a i) (h4 : J.nx h = J.nx g) (h5 : J.us h = J.us g) : h = g := by
  obtain ⟨c, l, v, n, u⟩ := h
  obtain ⟨c', l', v', n', u'⟩ := g
  have e1 : c = c' := funext h1
  have e2 : l = l' := funext h2
  have e3 : v = v' := funext fun a => funext fun i => h3 a i
  have e4 : n = n' := h4
  have e5 : u = u' := h5
  rw [e1, e2, e3, e4, e5]
theorem J.w32_id {x : Int} (h1 : -2147483648 ≤ x) (h2 : x < 2147483648) : J.w32 x = x := by unfold J.w32; omega
theorem J.w64_id {x : Int} (h1 : -9223372036854775808 ≤ x) (h2 : x < 9223372036854775808) : J.w64 x = x := by unfold J.w64; omega
theorem J.w32_lo (x : Int) : -2147483648 ≤ J.w32 x := by unfold J.w32; omega
theorem J.w32_hi (x : Int) : J.w32 x < 2147483648 := by unfold J.w32; omega
