/-! contracts: Arrays.copyOfRange on bytes, StringBuilder.toString -/
set_option maxRecDepth 100000
section
variable {d : Nat} {h : J.H} {Q : J.O → J.H → Prop} {a : Int} {bs : List Int}
theorem J.cor {v n : Int} (hc : J.cl h v = 204) (h0 : 0 ≤ n) (h1 : n ≤ J.ln h v) (h2 : J.ln h v < 100000) (he : v ≠ J.nx h) (hus : J.us h + 7 + n ≤ J.UM) (hd : 3 ≤ d) (hQ : Q (Sum.inl (some (J.R (J.nx h)))) (J.cpy (J.nw h 204 n (7 + n)) v 0 (J.nx h) 0 n)) : J.WP d 117 0 [J.R v, J.I 0, J.I n] [] h Q := by
  rw [b117_0, if_pos rfl, hc]
  refine ⟨by decide, ?_⟩
  by_cases e : n = J.ln h v
  · rw [if_pos e]
    subst e
    exact ⟨⟨rfl, hus⟩, Or.inr (by rw [J.cl_nw, if_pos rfl]; decide), hQ⟩
  · rw [if_neg e, b117_10]
    refine ⟨by omega, ?_⟩
    rw [b118_0]
    refine ⟨by omega, ?_⟩
    rw [b119_0, if_neg (by omega), J.af_v, b118_5, show n - 0 = n by omega, J.w32_id (by omega) (by omega)]
    refine ⟨⟨h0, hus⟩, by rw [J.cl_nw, if_neg he, hc]; decide, by omega, J.math_min ?_⟩
    rw [J.ln_nw, if_neg he, show J.ln h v - 0 = J.ln h v by omega, J.w32_id (by omega) (by omega), if_neg (by omega), J.af_s, b118_27]
    refine ⟨⟨h0, Int.le_refl _, Int.le_refl _, ?_, ?_, ?_, Or.inl ⟨?_, ?_, ?_⟩⟩, ?_⟩
    · rw [J.ln_nw, if_neg he]; omega
    · rw [J.ln_nw, if_pos rfl]; omega
    · rw [J.cl_nw, if_pos rfl]; decide
    · rw [J.cl_nw, if_neg he, hc]; decide
    · rw [J.cl_nw, if_pos rfl]
    · rw [J.cl_nw, if_neg he, hc]; decide
    · rw [J.af_s, b117_16]; exact hQ
theorem J.sb_len (hb : J.SB h a bs) (hd : 1 ≤ d) (hQ : Q (Sum.inl (some (J.I bs.length))) h) : J.WP d 115 0 [J.R a] [] h Q := by
  rw [b115_0, hb.1]
  refine ⟨J.ik4, by omega, ?_⟩
  rw [b116_0, hb.1, hb.2.2.1, J.af_s, b115_4]
  exact ⟨J.sb4, hQ⟩
theorem J.sb_str (hok : J.Ok h) (hb : J.SB h a bs) (hc : J.gv h (-1) 0 = 1) (hus : J.us h + 30 + bs.length ≤ J.UM) (hd : 6 ≤ d)
    (hQ : ∀ h', J.SS h' (J.nx h) bs → J.cl h' (J.nx h) = 23 → J.Ok h' → J.Le h h' → (∀ y i, y < J.nx h → J.gv h' y i = J.gv h y i) → J.us h' ≤ J.us h + 30 + bs.length → Q (Sum.inl (some (J.R (J.nx h)))) h') : J.WP d 111 0 [J.R a] [] h Q := by
  have hk : J.WP d 111 0 [J.R a] [] h (fun o h' => o = Sum.inl (some (J.R (J.nx h))) ∧ J.SS h' (J.nx h) bs ∧ J.cl h' (J.nx h) = 23 ∧ (∀ y i, y < J.nx h → J.gv h' y i = J.gv h y i) ∧ J.us h' ≤ J.us h + 30 + bs.length) := by
    have hnx := hok.2.2
    have hlt : ∀ x : Int, J.cl h x ≠ 0 → x < J.nx h := by
      intro x hx
      rcases Int.lt_or_le x (J.nx h) with w | w
      · exact w
      · exact absurd (hok.2.1 x w) hx
    have ha : a < J.nx h := hlt a (by rw [hb.1]; decide)
    have hv : J.gv h a 7 < J.nx h := hlt _ (by rw [hb.2.2.2.1]; decide)
    have hv0 : 0 < J.gv h a 7 := by
      rcases Int.lt_or_le 0 (J.gv h a 7) with w | w
      · exact w
      · exact absurd (hb.2.2.2.1.symm.trans (hok.1 _ w)) (by decide)
    -- the builder is as it was in every heap below
    have keep : ∀ g : J.H, (∀ x, x < J.nx h → J.cl g x = J.cl h x ∧ J.ln g x = J.ln h x) → (∀ y i, y < J.nx h → J.gv g y i = J.gv h y i) → J.SB g a bs := by
      intro g g1 g2
      obtain ⟨c1, c2, c3, c4, c5, c6, c7⟩ := hb
      refine ⟨by rw [(g1 a ha).1]; exact c1, by rw [g2 a 8 ha]; exact c2, by rw [g2 a 10 ha]; exact c3, ?_, ?_, ?_, fun j hj => ?_⟩
      · rw [g2 a 7 ha, (g1 _ hv).1]; exact c4
      · rw [g2 a 7 ha, (g1 _ hv).2]; exact c5
      · rw [g2 a 7 ha, (g1 _ hv).2]; exact c6
      · rw [g2 a 7 ha, g2 _ j hv]; exact c7 j hj
    have k1 : J.SB (J.nw h 23 0 (11 : Nat)) a bs := keep _ (fun x hx => ⟨by rw [J.cl_nw, if_neg (by omega)], by rw [J.ln_nw, if_neg (by omega)]⟩) (fun y i hy => by rw [J.gv_nw, if_neg (by omega)])
    have hc1 : J.gv (J.nw h 23 0 (11 : Nat)) (-1) 0 = 1 := by rw [J.gv_nw, if_neg (by omega)]; exact hc
    have hs1 : J.cl (J.nw h 23 0 (11 : Nat)) (J.nx h) = 23 := by rw [J.cl_nw, if_pos rfl]
    rw [b111_0]
    refine ⟨by show J.us h + 11 ≤ J.UM; omega, by rw [hs1]; decide, by omega, ?_⟩
    rw [b112_0, hs1]
    refine ⟨by decide, by omega, ?_⟩
    rw [b113_0, hs1]
    refine ⟨by decide, k1.1, by omega, ?_⟩
    rw [b114_0, k1.1, J.af_s, b113_8]
    refine ⟨J.sb4, k1.1, by omega, J.sb_len k1 (by omega) ?_⟩
    rw [J.af_s, b113_13]
    refine ⟨k1.1, by omega, J.sb_latin k1 hc1 ?_⟩
    rw [J.af_s, b113_19, if_neg (by decide), hs1]
    have e7 : J.gv (J.nw h 23 0 (11 : Nat)) a 7 = J.gv h a 7 := by rw [J.gv_nw, if_neg (by omega)]
    rw [e7]
    refine ⟨⟨by decide, by decide, ⟨by decide, by decide⟩⟩, by omega, J.cor ?_ (by omega) ?_ ?_ ?_ ?_ (by omega) ?_⟩
    · rw [J.cl_sv, J.cl_nw, if_neg (by omega)]; exact hb.2.2.2.1
    · rw [J.ln_sv, J.ln_nw, if_neg (by omega)]; exact hb.2.2.2.2.1
    · rw [J.ln_sv, J.ln_nw, if_neg (by omega)]; have := hb.2.2.2.2.2.1; omega
    · rw [J.nx_sv, J.nx_nw]; omega
    · show J.us h + 11 + 7 + _ ≤ _; omega
    · rw [J.af_s, b113_35, b113_97, J.af_v, b112_6, J.af_v, b111_8]
      have hn2 : J.nx (J.sv (J.nw h 23 0 (11 : Nat)) (J.nx h) 171 0) = J.nx h + 1 := rfl
      rw [hn2]
      refine ⟨⟨?_, ?_⟩, rfl, ?_, ?_, fun y i hy => ?_, ?_⟩
      · rw [J.cl_cpy, J.cl_nw, if_neg (show ¬ J.nx h = J.nx (J.sv (J.nw h 23 0 (11 : Nat)) (J.nx h) 171 0) by rw [hn2]; omega), J.cl_sv, hs1]; decide
      · rw [J.cl_cpy, J.cl_nw, if_neg (show ¬ J.nx h = J.nx (J.sv (J.nw h 23 0 (11 : Nat)) (J.nx h) 171 0) by rw [hn2]; omega), J.cl_sv, hs1]; decide
      · have e170 : J.gv (J.sv (J.cpy (J.nw (J.sv (J.nw h 23 0 (11 : Nat)) (J.nx h) 171 0) 204 (bs.length : Int) (7 + (bs.length : Int))) (J.gv h a 7) 0 (J.nx h + 1) 0 (bs.length : Int)) (J.nx h) 170 (J.nx h + 1)) (J.nx h) 170 = J.nx h + 1 := by rw [J.gv_sv, if_pos ⟨rfl, rfl⟩]
        refine ⟨Or.inl ?_, ?_, ⟨Or.inl ?_, ?_, fun j hj => ?_⟩, ?_⟩
        · rw [J.cl_sv, J.cl_cpy, J.cl_nw, if_neg (show ¬ J.nx h = J.nx (J.sv (J.nw h 23 0 (11 : Nat)) (J.nx h) 171 0) by rw [hn2]; omega), J.cl_sv, hs1]
        · rw [J.gv_sv, if_neg (by omega), J.gv_cpy, if_neg (fun z => by omega), J.gv_nw, if_neg (show ¬ J.nx h = J.nx (J.sv (J.nw h 23 0 (11 : Nat)) (J.nx h) 171 0) by rw [hn2]; omega), J.gv_sv, if_pos ⟨rfl, rfl⟩]
        · rw [e170, J.cl_sv, J.cl_cpy, J.cl_nw, if_pos hn2.symm]
        · rw [e170, J.ln_sv, J.ln_cpy, J.ln_nw, if_pos hn2.symm]
        · rw [e170, J.gv_sv, if_neg (fun z => by omega), J.gv_cpy, if_pos ⟨rfl, by omega, by omega⟩, J.gv_nw, if_neg (show ¬ J.gv h a 7 = J.nx (J.sv (J.nw h 23 0 (11 : Nat)) (J.nx h) 171 0) by rw [hn2]; omega), J.gv_sv, if_neg (fun z => by omega), J.gv_nw, if_neg (by omega), show (0 : Int) + ((j : Int) - 0) = j by omega]
          exact hb.2.2.2.2.2.2 j hj
        · have w1 := hb.2.2.2.2.1
          have w2 := hb.2.2.2.2.2.1
          omega
      · rw [J.cl_sv, J.cl_cpy, J.cl_nw, if_neg (show ¬ J.nx h = J.nx (J.sv (J.nw h 23 0 (11 : Nat)) (J.nx h) 171 0) by rw [hn2]; omega), J.cl_sv, hs1]
      · rw [J.gv_sv, if_neg (fun z => by omega), J.gv_cpy, if_neg (fun z => by omega), J.gv_nw, if_neg (show ¬ y = J.nx (J.sv (J.nw h 23 0 (11 : Nat)) (J.nx h) 171 0) by rw [hn2]; omega), J.gv_sv, if_neg (fun z => by omega), J.gv_nw, if_neg (by omega)]
      · show J.us h + 11 + (7 + (bs.length : Int)) ≤ _; omega
  refine J.WP_mono _ _ _ _ _ _ _ _ (fun o h' q => ?_) (J.keep hok hk)
  obtain ⟨⟨q1, q2, q3, q4, q5⟩, q6, q7⟩ := q
  subst q1
  exact hQ h' q2 q3 q6 q7 q4 q5
/-- setLength(0) -/
theorem J.sb_clear (hok : J.Ok h) (hb : J.SB h a bs) (hus : J.us h + 100 + 2 * J.ln h (J.gv h a 7) ≤ J.UM) (hd : 5 ≤ d) (hQ : ∀ h', J.SB h' a [] → J.Ok h' → J.Le h h' → (∀ y i, y ≠ a → J.gv h' y i = J.gv h y i) → J.gv h' a 7 = J.gv h a 7 → J.us h' = J.us h → J.nx h' = J.nx h → Q (Sum.inl none) h') : J.WP d 76 0 [J.R a, J.I 0] [] h Q := by
  have hb0 := hb
  obtain ⟨c1, c2, c3, c4, c5, c6, c7⟩ := hb
  have hva : J.gv h a 7 ≠ a := by
    intro z
    rw [z, c1] at c4; cases c4
  have hne : J.cl h a ≠ 0 := by rw [c1]; decide
  rw [b76_0, c1]
  refine ⟨J.ik4, by omega, ?_⟩
  rw [b77_0, if_neg (by decide)]
  refine ⟨c1, by omega, J.sb_ensure hok hb0 (by omega) (by omega) (by omega) (by omega) (fun _ => ?_) (fun N n1 => by omega)⟩
  rw [J.af_v, b77_18, c1, c3, if_neg (by omega)]
  refine ⟨J.sb4, ?_⟩
  by_cases e : (bs.length : Int) ≤ 0
  · rw [if_pos e, b77_76, c1, J.af_v, b76_5]
    have k := J.Ok_sv hok (a := a) (i := 10) (x := 0) hne
    refine ⟨⟨J.sb4, by decide⟩, hQ _ ⟨c1, by rw [J.gv_sv, if_neg (by omega)]; exact c2, by rw [J.gv_sv, if_pos ⟨rfl, rfl⟩]; rfl, ?_, ?_, ?_, fun j hj => by cases hj⟩ k.1 k.2 (fun y i hy => by rw [J.gv_sv, if_neg (fun z => hy z.1)]) (by rw [J.gv_sv, if_neg (by omega)]) rfl rfl⟩
    · rw [J.gv_sv, if_neg (by omega)]; exact c4
    · rw [J.gv_sv, if_neg (by omega)]; show (0 : Int) ≤ J.ln h (J.gv h a 7); omega
    · rw [J.gv_sv, if_neg (by omega)]; exact c6
  · rw [if_neg e, b77_76, J.cl_sv, c1, J.af_v, b76_5]
    have k0 := J.Ok_sv hok (a := a) (i := 9) (x := 1) hne
    have k := J.Ok_sv k0.1 (a := a) (i := 10) (x := 0) hne
    have g7 : J.gv (J.sv (J.sv h a 9 1) a 10 0) a 7 = J.gv h a 7 := by rw [J.gv_sv, if_neg (by omega), J.gv_sv, if_neg (by omega)]
    refine ⟨⟨J.sb4, by decide, Or.inr rfl⟩, ⟨J.sb4, by decide⟩, hQ _ ⟨c1, by rw [J.gv_sv, if_neg (by omega), J.gv_sv, if_neg (by omega)]; exact c2, by rw [J.gv_sv, if_pos ⟨rfl, rfl⟩]; rfl, ?_, ?_, ?_, fun j hj => by cases hj⟩ k.1 (k0.2.trans k.2) (fun y i hy => by rw [J.gv_sv, if_neg (fun z => hy z.1), J.gv_sv, if_neg (fun z => hy z.1)]) g7 rfl rfl⟩
    · rw [g7]; exact c4
    · rw [g7]; show (0 : Int) ≤ J.ln h (J.gv h a 7); omega
    · rw [g7]; exact c6
end
