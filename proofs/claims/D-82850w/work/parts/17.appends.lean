/-! contracts: StringBuilder.append(String), its inner part -/
set_option maxRecDepth 100000
section
variable {d : Nat} {h : J.H} {Q : J.O → J.H → Prop} {a b : Int} {bs cs : List Int}
theorem J.s_getb {v : Int} (hs : J.SS h b cs) (hc : J.gv h (-1) 0 = 1) (hv : J.cl h v = 204) {n : Int} (h0 : 0 ≤ n) (h1 : n < 100000) (h2 : n + cs.length ≤ J.ln h v) (hd : 1 ≤ d) (hQ : Q (Sum.inl none) (J.cpy h (J.gv h b 170) 0 v n cs.length)) : J.WP d 104 0 [J.R b, J.R v, J.I n, J.I 0] [] h Q := by
  have key : J.WP (d - 1) 95 0 [J.R b] [] h (J.af J.WP d 104 1 4 [J.R b, J.R v, J.I n, J.I 0] [] Q) := by
    refine J.s_coder hs hc ?_
    rw [J.af_s, b104_4, if_pos rfl, hv, J.shl0 (by omega) (by omega), hs.2.2.1.2.1, b104_43]
    exact ⟨hs.sb, hs.2.2.1.ia, ⟨by omega, by omega, h0, by omega, h2, by decide, Or.inl ⟨hs.2.2.1.isA, rfl, by rcases hs.2.2.1.1 with z | z <;> rw [z] <;> decide⟩⟩, hQ⟩
  rw [b104_0]
  rcases hs.1 with z | z
  · rw [b104_1_c23 _ _ _ _ _ _ _ _ z]; exact ⟨by omega, key⟩
  · rw [b104_1_c321 _ _ _ _ _ _ _ _ z]; exact ⟨by omega, key⟩
theorem J.sb_infl (hb : J.SB h a bs) (hs : J.SS h b cs) (hc : J.gv h (-1) 0 = 1) (hd : 1 ≤ d) (hQ : Q (Sum.inl none) h) : J.WP d 97 0 [J.R a, J.R b] [] h Q := by
  have key : J.WP (d - 1) 95 0 [J.R b] [] h (J.af J.WP d 97 11 14 [J.R a, J.R b] [J.I 0] Q) := by
    refine J.s_coder hs hc ?_
    rw [J.af_s, b97_14, if_pos rfl, b97_21]
    exact hQ
  rw [b97_0, hc, if_neg (by decide), hb.1, hb.2.1]
  refine ⟨J.sb4, ?_⟩
  rcases hs.1 with z | z
  · rw [b97_11_c23 _ _ _ _ _ _ _ z]; exact ⟨by omega, key⟩
  · rw [b97_11_c321 _ _ _ _ _ _ _ z]; exact ⟨by omega, key⟩
theorem J.sb_put (hb : J.SB h a bs) (hs : J.SS h b cs) (hc : J.gv h (-1) 0 = 1) (hr : (bs.length : Int) + cs.length ≤ J.ln h (J.gv h a 7)) (hd : 4 ≤ d) (hQ : Q (Sum.inl (some (J.R a))) (J.sv (J.cpy h (J.gv h b 170) 0 (J.gv h a 7) bs.length cs.length) a 10 ((bs.length : Int) + cs.length))) : J.WP d 86 24 [J.R a, J.R b, J.I cs.length] [] h Q := by
  have hb0 := hb
  obtain ⟨c1, c2, c3, c4, c5, c6, c7⟩ := hb
  have hva : J.gv h a 7 ≠ a := by
    intro z
    rw [z, c1] at c4; cases c4
  rw [b86_24, c1, c3]
  refine ⟨J.sb4, rfl, by omega, ?_⟩
  rw [b96_0]
  refine ⟨c1, by omega, J.sb_infl hb0 hs hc (by omega) ?_⟩
  rw [J.af_v, b96_5, c1, c2]
  refine ⟨J.sb4, ?_⟩
  have key : J.WP (d - 1 - 1) 104 0 [J.R b, J.R (J.gv h a 7), J.I bs.length, J.I 0] [] h (J.af J.WP (d - 1) 96 15 18 [J.R a, J.I bs.length, J.R b] [] (J.af J.WP d 86 30 33 [J.R a, J.R b, J.I cs.length] [] Q)) := by
    refine J.s_getb hs hc c4 (by omega) (by omega) hr (by omega) ?_
    rw [J.af_v, b96_18, J.af_v, b86_33, J.cl_cpy, c1, J.gv_cpy, if_neg (fun z => hva z.1.symm), c3, J.w32_id (by omega) (by omega)]
    exact ⟨J.sb4, ⟨J.sb4, by decide⟩, hQ⟩
  rcases hs.1 with z | z
  · rw [b96_15_c23 _ _ _ _ _ _ _ _ _ _ z]; exact ⟨by omega, key⟩
  · rw [b96_15_c321 _ _ _ _ _ _ _ _ _ _ z]; exact ⟨by omega, key⟩
end
