/-! contracts: StringBuilder.<init>() -/
set_option maxRecDepth 100000
section
variable {d : Nat} {h : J.H} {Q : J.O → J.H → Prop} {a : Int}
theorem J.sb_init (hok : J.Ok h) (ha : J.cl h a = 4) (hc : J.gv h (-1) 0 = 1) (hus : J.us h + 23 ≤ J.UM) (hd : 1 ≤ d) (hQ : Q (Sum.inl none) (J.sv (J.sv (J.nw h 204 16 (7 + 16)) a 7 (J.nx h)) a 8 0)) : J.WP d 4 0 [J.R a] [] h Q := by
  have hna : a ≠ J.nx h := by
    intro z
    have := hok.2.1 a (by omega)
    rw [this] at ha; cases ha
  rw [b4_0, ha]
  refine ⟨J.ik4, by omega, ?_⟩
  rw [b5_0, ha, hc, if_neg (by decide), J.cl_nw, if_neg hna, ha, b5_38, J.af_v, b4_6]
  exact ⟨J.ik4, ⟨by decide, by omega⟩, ⟨J.sb4, by decide⟩, ⟨J.sb4, by decide, ⟨by decide, by decide⟩⟩, hQ⟩
theorem J.SB_new (hok : J.Ok h) (ha : J.cl h a = 4) (h10 : J.gv h a 10 = 0) : J.SB (J.sv (J.sv (J.nw h 204 16 (7 + 16)) a 7 (J.nx h)) a 8 0) a [] := by
  have hna : a ≠ J.nx h := by
    intro z
    have := hok.2.1 a (by omega)
    rw [this] at ha; cases ha
  have e7 : J.gv (J.sv (J.sv (J.nw h 204 16 (7 + 16)) a 7 (J.nx h)) a 8 0) a 7 = J.nx h := by rw [J.gv_sv, if_neg (by omega), J.gv_sv, if_pos ⟨rfl, rfl⟩]
  refine ⟨?_, by rw [J.gv_sv, if_pos ⟨rfl, rfl⟩], ?_, ?_, ?_, ?_, fun j hj => by cases hj⟩
  · rw [J.cl_sv, J.cl_sv, J.cl_nw, if_neg hna]; exact ha
  · rw [J.gv_sv, if_neg (by omega), J.gv_sv, if_neg (by omega), J.gv_nw, if_neg hna, h10]; rfl
  · rw [e7, J.cl_sv, J.cl_sv, J.cl_nw, if_pos rfl]
  · rw [e7, J.ln_sv, J.ln_sv, J.ln_nw, if_pos rfl]; decide
  · rw [e7, J.ln_sv, J.ln_sv, J.ln_nw, if_pos rfl]; decide
end
