/-! contracts: java.lang.StringBuilder (all of one byte a sign) -/
set_option maxRecDepth 100000
theorem J.sb4 : J.sb 4 86 = true := by decide
theorem J.ik4 : J.ik 4 = true := by decide
/-- a builder and its bytes -/
def J.SB (h : J.H) (a : Int) (bs : List Int) : Prop := J.cl h a = 4 ∧ J.gv h a 8 = 0 ∧ J.gv h a 10 = bs.length ∧ J.cl h (J.gv h a 7) = 204 ∧ (bs.length : Int) ≤ J.ln h (J.gv h a 7) ∧ J.ln h (J.gv h a 7) < 40000 ∧ ∀ j : Nat, j < bs.length → J.gv h (J.gv h a 7) j = bs.getD j 0
section
variable {d : Nat} {h : J.H} {Q : J.O → J.H → Prop} {a : Int} {bs : List Int}
theorem J.sb_latin (hb : J.SB h a bs) (hc : J.gv h (-1) 0 = 1) (hQ : Q (Sum.inl (some (J.I 1))) h) : J.WP d 81 0 [J.R a] [] h Q := by
  rw [b81_0, hc, if_neg (by decide), hb.1, hb.2.1, if_pos rfl, b81_18]
  exact ⟨J.sb4, Or.inr rfl, hQ⟩
theorem J.copyOfB {v n : Int} (hc : J.cl h v = 204) (h0 : 0 ≤ J.ln h v) (h1 : J.ln h v < n) (he : v ≠ J.nx h) (hus : J.us h + 7 + n ≤ J.UM) (hd : 1 ≤ d) (hQ : Q (Sum.inl (some (J.R (J.nx h)))) (J.cpy (J.nw h 204 n (7 + n)) v 0 (J.nx h) 0 (J.ln h v))) : J.WP d 80 0 [J.R v, J.I n, J.U] [] h Q := by
  rw [b80_0, hc, if_neg (by omega)]
  refine ⟨by decide, ⟨by omega, hus⟩, by rw [J.cl_nw, if_neg he, hc]; decide, by omega, J.math_min ?_⟩
  rw [J.ln_nw, if_neg he, if_pos (by omega), J.af_s, b80_28]
  refine ⟨⟨h0, Int.le_refl _, Int.le_refl _, ?_, ?_, ?_, Or.inl ⟨?_, ?_, ?_⟩⟩, hQ⟩
  · rw [J.ln_nw, if_neg he]; omega
  · rw [J.ln_nw, if_pos rfl]; omega
  · rw [J.cl_nw, if_pos rfl]; decide
  · rw [J.cl_nw, if_neg he, hc]; decide
  · rw [J.cl_nw, if_pos rfl]
  · rw [J.cl_nw, if_neg he, hc]; decide
theorem J.shl0 {x : Int} (h1 : -2147483648 ≤ x) (h2 : x < 2147483648) : J.shl32 x 0 = x := by
  unfold J.shl32
  show J.w32 (x * 1) = x
  rw [Int.mul_one, J.w32_id h1 h2]
theorem J.sb_ensure {m : Int} (hok : J.Ok h) (hb : J.SB h a bs) (h0 : 0 ≤ m) (h1 : m < 40000) (hus : J.us h + 100 + 2 * J.ln h (J.gv h a 7) + m ≤ J.UM) (hd : 3 ≤ d) (hQ1 : m ≤ J.ln h (J.gv h a 7) → Q (Sum.inl none) h)
    (hQ2 : ∀ N : Int, J.ln h (J.gv h a 7) < m → m ≤ N → J.ln h (J.gv h a 7) < N → N ≤ 2 * J.ln h (J.gv h a 7) + m + 2 → Q (Sum.inl none) (J.sv (J.cpy (J.nw h 204 N (7 + N)) (J.gv h a 7) 0 (J.nx h) 0 (J.ln h (J.gv h a 7))) a 7 (J.nx h))) : J.WP d 78 0 [J.R a, J.I m, J.U] [] h Q := by
  obtain ⟨c1, c2, c3, c4, c5, c6, c7⟩ := hb
  have hne : J.gv h a 7 ≠ J.nx h := by
    intro z
    have := hok.2.1 (J.gv h a 7) (by omega)
    rw [this] at c4; cases c4
  have hna : a ≠ J.nx h := by
    intro z
    have := hok.2.1 a (by omega)
    rw [this] at c1; cases c1
  rw [b78_0, c1, c2, c4, J.shr0]
  refine ⟨J.sb4, by decide, ?_⟩
  rw [J.w32_id (by omega) (by omega)]
  by_cases e : m - J.ln h (J.gv h a 7) ≤ 0
  · rw [if_pos e, b78_38]; exact hQ1 (by omega)
  · rw [if_neg e]
    refine ⟨rfl, by omega, ?_⟩
    rw [b79_0, c1, c2, c4, J.shl0 (by omega) (by omega), J.shl0 (by omega) (by omega), J.w32_id (by omega) (by omega), J.w32_id (by omega) (by omega)]
    refine ⟨J.sb4, by decide, by omega, J.newLength (by omega) (by omega) (by omega) (by omega) (by omega) (by omega) (by omega) ?_⟩
    generalize hz : J.ln h (J.gv h a 7) + (if m - J.ln h (J.gv h a 7) < J.ln h (J.gv h a 7) + 2 then J.ln h (J.gv h a 7) + 2 else m - J.ln h (J.gv h a 7)) = N
    have hN : m ≤ N ∧ J.ln h (J.gv h a 7) < N ∧ N ≤ 2 * J.ln h (J.gv h a 7) + m + 2 := by
      by_cases e2 : m - J.ln h (J.gv h a 7) < J.ln h (J.gv h a 7) + 2
      · rw [if_pos e2] at hz; omega
      · rw [if_neg e2] at hz; omega
    rw [J.af_s, b79_32, if_neg (by omega), c1, c2, J.shr0]
    refine ⟨J.sb4, ?_⟩
    rw [J.af_s, b78_27, c1, c2, J.shl0 (by omega) (by omega)]
    refine ⟨J.sb4, by omega, J.copyOfB c4 (by omega) hN.2.1 hne (by omega) (by omega) ?_⟩
    rw [J.af_s, b78_35, J.cl_cpy, J.cl_nw, if_neg hna, c1, b78_38]
    exact ⟨⟨J.sb4, by decide⟩, hQ2 N (by omega) hN.1 hN.2.1 hN.2.2⟩
/-- the builder after its array has been made longer -/
theorem J.SB_grown {N : Int} (hok : J.Ok h) (hb : J.SB h a bs) (h1 : J.ln h (J.gv h a 7) < N) (h2 : N < 40000) : J.SB (J.sv (J.cpy (J.nw h 204 N (7 + N)) (J.gv h a 7) 0 (J.nx h) 0 (J.ln h (J.gv h a 7))) a 7 (J.nx h)) a bs := by
  obtain ⟨c1, c2, c3, c4, c5, c6, c7⟩ := hb
  have hne : J.gv h a 7 ≠ J.nx h := by
    intro z
    have := hok.2.1 (J.gv h a 7) (by omega)
    rw [this] at c4; cases c4
  have hna : a ≠ J.nx h := by
    intro z
    have := hok.2.1 a (by omega)
    rw [this] at c1; cases c1
  have e7 : J.gv (J.sv (J.cpy (J.nw h 204 N (7 + N)) (J.gv h a 7) 0 (J.nx h) 0 (J.ln h (J.gv h a 7))) a 7 (J.nx h)) a 7 = J.nx h := by rw [J.gv_sv, if_pos ⟨rfl, rfl⟩]
  have eo : ∀ i : Int, i ≠ 7 → J.gv (J.sv (J.cpy (J.nw h 204 N (7 + N)) (J.gv h a 7) 0 (J.nx h) 0 (J.ln h (J.gv h a 7))) a 7 (J.nx h)) a i = J.gv h a i := by
    intro i hi
    rw [J.gv_sv, if_neg (fun z => hi z.2), J.gv_cpy, if_neg (fun z => hna z.1), J.gv_nw, if_neg hna]
  refine ⟨?_, by rw [eo 8 (by decide)]; exact c2, by rw [eo 10 (by decide)]; exact c3, ?_, ?_, ?_, fun j hj => ?_⟩
  · rw [J.cl_sv, J.cl_cpy, J.cl_nw, if_neg hna]; exact c1
  · rw [e7, J.cl_sv, J.cl_cpy, J.cl_nw, if_pos rfl]
  · rw [e7, J.ln_sv, J.ln_cpy, J.ln_nw, if_pos rfl]; omega
  · rw [e7, J.ln_sv, J.ln_cpy, J.ln_nw, if_pos rfl]; exact h2
  · rw [e7, J.gv_sv, if_neg (fun z => hna z.1.symm), J.gv_cpy, if_pos ⟨rfl, by omega, by omega⟩, J.gv_nw, if_neg hne, show (0 : Int) + ((j : Int) - 0) = j by omega]
    exact c7 j hj
theorem J.i8_r (c : Int) : -128 ≤ J.i8 c ∧ J.i8 c < 128 := by unfold J.i8; omega
theorem J.sb_push {c : Int} (hb : J.SB h a bs) (hc : J.gv h (-1) 0 = 1) (h1 : c ≤ 255) (hr : (bs.length : Int) < J.ln h (J.gv h a 7)) (hd : 1 ≤ d) (hQ : Q (Sum.inl (some (J.R a))) (J.sv (J.sv h a 10 ((bs.length : Int) + 1)) (J.gv h a 7) bs.length (J.i8 c))) : J.WP d 130 10 [J.R a, J.I c] [] h Q := by
  have hb0 := hb
  obtain ⟨c1, c2, c3, c4, c5, c6, c7⟩ := hb
  rw [b130_10]
  refine ⟨c1, by omega, J.sb_latin hb0 hc ?_⟩
  rw [J.af_s, b130_14, if_neg (by decide)]
  refine ⟨by omega, ?_⟩
  rw [b131_0, if_pos h1, b131_12]
  refine ⟨Or.inr rfl, ?_⟩
  rw [J.af_s, b130_21, if_neg (by decide), c1, c3, c4, J.w32_id (by omega) (by omega), b130_75]
  exact ⟨J.sb4, ⟨J.sb4, by decide⟩, ⟨Or.inr ⟨rfl, J.i8_r c⟩, ⟨by omega, hr⟩⟩, hQ⟩
theorem J.SB_pushed {x : Int} (hb : J.SB h a bs) (hr : (bs.length : Int) < J.ln h (J.gv h a 7)) : J.SB (J.sv (J.sv h a 10 ((bs.length : Int) + 1)) (J.gv h a 7) bs.length x) a (bs ++ [x]) := by
  obtain ⟨c1, c2, c3, c4, c5, c6, c7⟩ := hb
  have hva : J.gv h a 7 ≠ a := by
    intro z
    rw [z, c1] at c4; cases c4
  have eo : ∀ i : Int, i ≠ 10 → J.gv (J.sv (J.sv h a 10 ((bs.length : Int) + 1)) (J.gv h a 7) bs.length x) a i = J.gv h a i := by
    intro i hi
    rw [J.gv_sv, if_neg (fun z => hva z.1.symm), J.gv_sv, if_neg (fun z => hi z.2)]
  have e7 := eo 7 (by decide)
  refine ⟨c1, by rw [eo 8 (by decide)]; exact c2, ?_, ?_, ?_, ?_, fun j hj => ?_⟩
  · rw [J.gv_sv, if_neg (fun z => hva z.1.symm), J.gv_sv, if_pos ⟨rfl, rfl⟩]; simp
  · rw [e7]; exact c4
  · rw [e7]; show _ ≤ J.ln h (J.gv h a 7); simp; omega
  · rw [e7]; exact c6
  · rw [e7, J.gv_sv]
    have hj' : j < bs.length + 1 := by simpa using hj
    by_cases ej : (j : Int) = bs.length
    · rw [if_pos ⟨rfl, ej⟩]
      have : j = bs.length := by omega
      rw [this]; simp
    · rw [if_neg (fun z => ej z.2), J.gv_sv, if_neg (fun z => hva z.1), c7 j (by omega)]
      simp [List.getElem?_append_left (show j < bs.length by omega)]
/-- append of a sign -/
theorem J.sb_char {c : Int} (hok : J.Ok h) (hb : J.SB h a bs) (hc : J.gv h (-1) 0 = 1) (h1 : c ≤ 255) (hl : bs.length < 10000) (hn : J.ln h (J.gv h a 7) < 15000) (hus : J.us h + 200 + 2 * J.ln h (J.gv h a 7) + bs.length ≤ J.UM) (hd : 5 ≤ d)
    (hQ : ∀ h', J.SB h' a (bs ++ [J.i8 c]) → J.Ok h' → J.Le h h' → (∀ y i, y < J.nx h → y ≠ a → y ≠ J.gv h a 7 → J.gv h' y i = J.gv h y i) → (J.gv h' a 7 = J.gv h a 7 ∨ J.nx h ≤ J.gv h' a 7) → J.us h' ≤ J.us h + 100 + 2 * J.ln h (J.gv h a 7) + bs.length → Q (Sum.inl (some (J.R a))) h') : J.WP d 129 0 [J.R a, J.I c] [] h Q := by
  have hk : J.WP d 129 0 [J.R a, J.I c] [] h (fun o h' => o = Sum.inl (some (J.R a)) ∧ J.SB h' a (bs ++ [J.i8 c]) ∧ (∀ y i, y < J.nx h → y ≠ a → y ≠ J.gv h a 7 → J.gv h' y i = J.gv h y i) ∧ (J.gv h' a 7 = J.gv h a 7 ∨ J.nx h ≤ J.gv h' a 7) ∧ J.us h' ≤ J.us h + 100 + 2 * J.ln h (J.gv h a 7) + bs.length) := by
    have hb0 := hb
    obtain ⟨c1, c2, c3, c4, c5, c6, c7⟩ := hb
    have hva : J.gv h a 7 ≠ a := by
      intro z
      rw [z, c1] at c4; cases c4
    have hna : a ≠ J.nx h := by
      intro z
      have := hok.2.1 a (by omega)
      rw [this] at c1; cases c1
    have hm1 : (-1 : Int) ≠ a := by
      intro z
      have := hok.1 a (by omega)
      rw [this] at c1; cases c1
    have hnx := hok.2.2
    rw [b129_0, c1]
    refine ⟨J.ik4, by omega, ?_⟩
    rw [b130_0, c1, c3, J.w32_id (by omega) (by omega)]
    refine ⟨J.sb4, rfl, by omega, J.sb_ensure hok hb0 (by omega) (by omega) (by omega) (by omega) (fun e => ?_) (fun N n1 n2 n3 n4 => ?_)⟩
    · rw [J.af_v]
      refine J.sb_push hb0 hc h1 (by omega) (by omega) ?_
      rw [J.af_s, b129_5]
      refine ⟨rfl, J.SB_pushed hb0 (by omega), fun y i y1 y2 y3 => ?_, Or.inl ?_, ?_⟩
      · rw [J.gv_sv, if_neg (fun z => y3 z.1), J.gv_sv, if_neg (fun z => y2 z.1)]
      · rw [J.gv_sv, if_neg (fun z => hva z.1.symm), J.gv_sv, if_neg (by omega)]
      · show J.us h ≤ _; omega
    · rw [J.af_v]
      have hg := J.SB_grown (N := N) hok hb0 n3 (by omega)
      have e7 : J.gv (J.sv (J.cpy (J.nw h 204 N (7 + N)) (J.gv h a 7) 0 (J.nx h) 0 (J.ln h (J.gv h a 7))) a 7 (J.nx h)) a 7 = J.nx h := by rw [J.gv_sv, if_pos ⟨rfl, rfl⟩]
      have eln : J.ln (J.sv (J.cpy (J.nw h 204 N (7 + N)) (J.gv h a 7) 0 (J.nx h) 0 (J.ln h (J.gv h a 7))) a 7 (J.nx h)) (J.nx h) = N := by rw [J.ln_sv, J.ln_cpy, J.ln_nw, if_pos rfl]
      refine J.sb_push hg ?_ h1 (by rw [e7, eln]; omega) (by omega) ?_
      · rw [J.gv_sv, if_neg (fun z => hm1 z.1), J.gv_cpy, if_neg (fun z => by omega), J.gv_nw, if_neg (by omega)]; exact hc
      · rw [J.af_s, b129_5]
        refine ⟨rfl, J.SB_pushed hg (by rw [e7, eln]; omega), fun y i y1 y2 y3 => ?_, Or.inr ?_, ?_⟩
        · rw [e7, J.gv_sv, if_neg (fun z => by omega), J.gv_sv, if_neg (fun z => y2 z.1), J.gv_sv, if_neg (fun z => y2 z.1), J.gv_cpy, if_neg (fun z => by omega), J.gv_nw, if_neg (by omega)]
        · rw [e7, J.gv_sv, if_neg (fun z => hna z.1), J.gv_sv, if_neg (by omega), e7]; exact Int.le_refl _
        · show J.us h + (7 + N) ≤ _; omega
  refine J.WP_mono _ _ _ _ _ _ _ _ (fun o h' q => ?_) (J.keep hok hk)
  obtain ⟨⟨q1, q2, q3, q4, q5⟩, q6, q7⟩ := q
  subst q1
  exact hQ h' q2 q6 q7 q3 q4 q5
end
