/-! contracts: java.util.ArrayList -/
set_option maxRecDepth 100000
theorem J.sb6 : J.sb 6 6 = true := by decide
theorem J.sb6a : J.sb 6 87 = true := by decide
theorem J.ik6 : J.ik 6 = true := by decide
theorem J.ia214 : J.ia 214 = true := by decide
theorem J.ia311 : J.ia 311 = true := by decide
theorem J.isA214 : J.isA 214 2 = true := by decide
theorem J.isA311 : J.isA 311 2 = true := by decide
/-- a list's places: the array's own, those behind the size too; what may lie there -/
def J.AL (h : J.H) (a : Int) (l : List Int) : Prop := J.cl h a = 6 ∧ J.gv h a 20 = l.length ∧ (J.cl h (J.gv h a 19) = 214 ∨ (J.gv h a 19 = J.gv h (-1) 1 ∧ J.cl h (J.gv h a 19) = 311 ∧ J.ln h (J.gv h a 19) = 0)) ∧ (l.length : Int) ≤ J.ln h (J.gv h a 19) ∧ J.ln h (J.gv h a 19) < 100000 ∧ (∀ j : Nat, j < l.length → J.gv h (J.gv h a 19) j = l.getD j 0) ∧ ∀ j : Int, 0 ≤ j → j < J.ln h (J.gv h a 19) → J.gv h (J.gv h a 19) j = 0 ∨ J.okK (J.cl h (J.gv h (J.gv h a 19) j)) = true
section
variable {d : Nat} {h : J.H} {Q : J.O → J.H → Prop} {a : Int} {l : List Int}
theorem J.al_size (hl : J.AL h a l) (hQ : Q (Sum.inl (some (J.I l.length))) h) : J.WP d 34 0 [J.R a] [] h Q := by
  rw [b34_0, hl.1, hl.2.1]
  exact ⟨J.sb6, hQ⟩
theorem J.al_get {j : Int} (hl : J.AL h a l) (h1 : 0 ≤ j) (h2 : j < l.length) (hd : 2 ≤ d) (hQ : Q (Sum.inl (some (J.R (l.getD j.toNat 0)))) h) : J.WP d 30 0 [J.R a, J.I j] [] h Q := by
  obtain ⟨c1, c2, c3, c4, c5, c6, c7⟩ := hl
  have e1 : J.isA (J.cl h (J.gv h a 19)) 2 = true := by
    rcases c3 with z | ⟨-, z, -⟩ <;> rw [z]
    · exact J.isA214
    · exact J.isA311
  have e2 : J.gv h (J.gv h a 19) j = l.getD j.toNat 0 := by
    have := c6 j.toNat (by omega)
    rwa [Int.toNat_of_nonneg h1] at this
  have e3 : ¬ j < 0 := by omega
  simp only [b30_0, b31_0, b32_0, b31_6, b30_8, b33_0, b30_14, J.af_s, c1, c2, J.sb6, e1, e2, e3, h2, if_true, if_false, true_and, J.rg]
  exact ⟨by omega, by omega, by omega, ⟨h1, by omega⟩, hQ⟩
theorem J.cpy0 (h : J.H) (a i b j : Int) : J.cpy h a i b j 0 = h := by
  refine J.ext (fun _ => rfl) (fun _ => rfl) (fun x y => ?_) rfl rfl
  rw [J.gv_cpy, if_neg (by omega)]
theorem J.math_max {x y : Int} (hQ : Q (Sum.inl (some (J.I (if x < y then y else x)))) h) : J.WP d 22 0 [J.I x, J.I y] [] h Q := by
  rw [b22_0]
  by_cases e : x < y
  · rw [if_pos e] at hQ ⊢; rw [b22_10]; exact hQ
  · rw [if_neg e] at hQ ⊢; rw [b22_10]; exact hQ
theorem J.math_min {x y : Int} (hQ : Q (Sum.inl (some (J.I (if x ≤ y then x else y)))) h) : J.WP d 26 0 [J.I x, J.I y] [] h Q := by
  rw [b26_0]
  by_cases e : x ≤ y
  · rw [if_pos e] at hQ ⊢; rw [b26_10]; exact hQ
  · rw [if_neg e] at hQ ⊢; rw [b26_10]; exact hQ
theorem J.newLength {o m p : Int} (h0 : 0 ≤ o) (h1 : 0 < m) (h2 : 0 ≤ p) (h3 : o < 1000000) (h4 : m < 1000000) (h5 : p < 1000000) (hd : 1 ≤ d) (hQ : Q (Sum.inl (some (J.I (o + if m < p then p else m)))) h) : J.WP d 21 0 [J.I o, J.I m, J.I p, J.U] [] h Q := by
  rw [b21_0]
  refine ⟨by omega, J.math_max ?_⟩
  rw [J.af_s, b21_6]
  generalize hz : (if m < p then p else m) = z at hQ ⊢
  have hz2 : 0 < z ∧ z < 1000000 := by
    by_cases e : m < p
    · rw [if_pos e] at hz; omega
    · rw [if_neg e] at hz; omega
  rw [J.w32_id (by omega) (by omega), if_pos (by omega), if_pos (by omega)]
  exact hQ
theorem J.copyOf {e n : Int} (hc : J.cl h e = 214 ∨ J.cl h e = 311) (h0 : 0 ≤ J.ln h e) (h1 : J.ln h e ≤ n) (he : e ≠ J.nx h) (hv : J.vld h e 0 (J.ln h e) = true) (hus : J.us h + 7 + n ≤ J.UM) (hd : 2 ≤ d) (hQ : Q (Sum.inl (some (J.R (J.nx h)))) (J.cpy (J.nw h 214 n (7 + n)) e 0 (J.nx h) 0 (J.ln h e))) : J.WP d 24 0 [J.R e, J.I n] [] h Q := by
  have hia : J.ia (J.cl h e) = true := by rcases hc with z | z <;> rw [z] <;> decide
  have hisA : J.isA (J.cl h e) 2 = true := by rcases hc with z | z <;> rw [z] <;> decide
  have hv2 : J.vld (J.nw h 214 n (7 + n)) e 0 (J.ln h e) = true := by
    rw [J.vld_iff] at hv ⊢
    intro i i1 i2
    rw [J.gv_nw, if_neg he, J.cl_nw]
    rcases hv i i1 i2 with z | z
    · exact Or.inl z
    · refine Or.inr ?_
      by_cases e9 : J.gv h e i = J.nx h
      · rw [if_pos e9]; decide
      · rw [if_neg e9]; exact z
  rw [b24_0]
  refine ⟨hc, by omega, ?_⟩
  rw [b25_0, if_pos rfl]
  refine ⟨⟨by omega, hus⟩, by rw [J.cl_nw, if_neg he]; exact hia, by omega, J.math_min ?_⟩
  rw [J.ln_nw, if_neg he, if_pos h1, J.af_s, b25_35]
  refine ⟨⟨h0, Int.le_refl _, Int.le_refl _, ?_, ?_, ?_, Or.inr ⟨?_, ?_, hv2⟩⟩, ?_⟩
  · rw [J.ln_nw, if_neg he]; omega
  · rw [J.ln_nw, if_pos rfl]; omega
  · rw [J.cl_nw, if_pos rfl]; decide
  · rw [J.cl_nw, if_neg he]; exact hisA
  · rw [J.cl_nw, if_pos rfl]
  · rw [J.af_s, b24_9]; exact hQ
theorem J.shr1 {x : Int} (h0 : 0 ≤ x) : J.shr32 x 1 = x / 2 := by unfold J.shr32; rfl
theorem J.al_grow (hok : J.Ok h) (hl : J.AL h a l) (hf : (l.length : Int) = J.ln h (J.gv h a 19)) (hus : J.us h + 17 + 2 * l.length ≤ J.UM) (hd : 4 ≤ d) (hQ : ∀ N : Int, (l.length : Int) < N → N ≤ 2 * l.length + 10 → Q (Sum.inl (some (J.R (J.nx h)))) (J.sv (J.cpy (J.nw h 214 N (7 + N)) (J.gv h a 19) 0 (J.nx h) 0 l.length) a 19 (J.nx h))) : J.WP d 19 0 [J.R a] [] h Q := by
  obtain ⟨c1, c2, c3, c4, c5, c6, c7⟩ := hl
  have hne : J.gv h a 19 ≠ J.nx h := by
    intro z
    have := hok.2.1 (J.gv h a 19) (by omega)
    rcases c3 with w | ⟨-, w, -⟩ <;> rw [this] at w <;> cases w
  have hna : a ≠ J.nx h := by
    intro z
    have := hok.2.1 a (by omega)
    rw [this] at c1; cases c1
  have hc : J.cl h (J.gv h a 19) = 214 ∨ J.cl h (J.gv h a 19) = 311 := c3.imp id (fun z => z.2.1)
  have hia : J.ia (J.cl h (J.gv h a 19)) = true := by rcases hc with z | z <;> rw [z] <;> decide
  have hv : J.vld h (J.gv h a 19) 0 (J.ln h (J.gv h a 19)) = true := by
    rw [J.vld_iff]
    intro i i1 i2
    exact c7 i i1 (by omega)
  rw [b19_0, c1, c2, J.w32_id (by omega) (by omega)]
  refine ⟨J.sb6, rfl, by omega, ?_⟩
  have big : J.WP (d - 1) 20 20 [J.R a, J.I ((l.length : Int) + 1), J.I (J.ln h (J.gv h a 19)), J.U] [] h (J.af J.WP d 19 7 10 [J.R a] [] Q) := by
    rw [b20_20, ← hf, J.shr1 (by omega), show (l.length : Int) + 1 - l.length = 1 by omega, J.w32_id (by omega) (by omega)]
    refine ⟨by omega, J.newLength (by omega) (by omega) (by omega) (by omega) (by omega) (by omega) (by omega) ?_⟩
    generalize hz : (l.length : Int) + (if (1 : Int) < (l.length : Int) / 2 then (l.length : Int) / 2 else 1) = N
    have hN : (l.length : Int) < N ∧ N ≤ 2 * l.length + 10 := by
      by_cases e : (1 : Int) < (l.length : Int) / 2
      · rw [if_pos e] at hz; omega
      · rw [if_neg e] at hz; omega
    rw [J.af_s, b20_30, c1]
    refine ⟨J.sb6, by omega, J.copyOf hc (by omega) (by omega) hne hv (by omega) (by omega) ?_⟩
    rw [J.af_s, b20_40, J.cl_cpy, J.cl_nw, if_neg hna, c1, J.af_s, b19_10, ← hf]
    exact ⟨⟨J.sb6, by decide⟩, hQ N hN.1 hN.2⟩
  rw [b20_0, c1]
  refine ⟨J.sb6, hia, ?_⟩
  by_cases e0 : J.ln h (J.gv h a 19) ≤ 0
  · rw [if_pos e0]
    by_cases e1 : J.gv h a 19 = J.gv h (-1) 1
    · rw [if_pos e1]
      refine ⟨by omega, J.math_max ?_⟩
      rw [if_neg (by omega), J.af_s, b20_52, J.cl_nw, if_neg hna, c1, J.af_s, b19_10]
      have q := hQ 10 (by omega) (by omega)
      have hl0 : (l.length : Int) = 0 := by omega
      rw [hl0, J.cpy0] at q
      exact ⟨⟨by omega, by omega⟩, ⟨J.sb6, by decide⟩, q⟩
    · rw [if_neg e1]; exact big
  · rw [if_neg e0]; exact big
theorem J.al_e {b : Int} (hl : J.AL h a l) (hb : b = J.gv h a 19) : J.cl h b = 214 ∨ J.cl h b = 311 := by rw [hb]; exact hl.2.2.1.imp id (fun z => z.2.1)
/-- the element goes behind the last; nothing else is touched but the list's own array and fields (or a new array) -/
theorem J.al_put {h1 : J.H} {x e : Int} (d : Nat) (hok : J.Ok h) (ha : J.cl h1 a = 6) (he : J.cl h1 e = 214) (hx : x = 0 ∨ J.okK (J.cl h1 x) = true) (hn : (l.length : Int) < J.ln h1 e) (hb : (l.length : Int) < 100000) (hQ : Q (Sum.inl none) (J.sv (J.sv h1 e l.length x) a 20 ((l.length : Int) + 1))) (y2 : Int) : J.WP d 18 11 [J.R a, J.R x, J.R e, J.I l.length] [] h1 Q := by
  rw [b18_11, he, ha, J.w32_id (by omega) (by omega)]
  exact ⟨⟨by decide, J.isA214, ⟨by omega, hn⟩, (by
    unfold J.aok
    rw [he]
    rcases hx with z | z
    · exact Or.inl z
    · exact Or.inr (Or.inl ⟨rfl, z⟩))⟩, ⟨J.sb6, by decide⟩, hQ⟩
theorem J.al_add {x : Int} (hok : J.Ok h) (hl : J.AL h a l) (hx : x = 0 ∨ J.okK (J.cl h x) = true) (hlen : l.length < 30000) (hus : J.us h + 17 + 2 * l.length ≤ J.UM) (hd : 6 ≤ d)
    (hQ : ∀ h', J.AL h' a (l ++ [x]) → J.Ok h' → J.Le h h' → (∀ y i, y < J.nx h → y ≠ a → y ≠ J.gv h a 19 → J.gv h' y i = J.gv h y i) → (J.gv h' a 19 = J.gv h a 19 ∨ J.nx h ≤ J.gv h' a 19) → J.us h' ≤ J.us h + 17 + 2 * l.length → Q (Sum.inl (some (J.I 1))) h') : J.WP d 17 0 [J.R a, J.R x] [] h Q := by
  have hk : J.WP d 17 0 [J.R a, J.R x] [] h (fun o h' => o = Sum.inl (some (J.I 1)) ∧ J.AL h' a (l ++ [x]) ∧ (∀ y i, y < J.nx h → y ≠ a → y ≠ J.gv h a 19 → J.gv h' y i = J.gv h y i) ∧ (J.gv h' a 19 = J.gv h a 19 ∨ J.nx h ≤ J.gv h' a 19) ∧ J.us h' ≤ J.us h + 17 + 2 * l.length) := by
    have hc := J.al_e hl rfl
    have hl0 := hl
    obtain ⟨c1, c2, c3, c4, c5, c6, c7⟩ := hl
    have hane : J.gv h a 19 ≠ a := by
      intro z
      rw [z, c1] at hc
      rcases hc with w | w <;> cases w
    have hia : J.ia (J.cl h (J.gv h a 19)) = true := by rcases hc with z | z <;> rw [z] <;> decide
    have hm1 : a ≠ -1 := by
      intro z
      have := hok.1 a (by omega)
      rw [this] at c1; cases c1
    rw [b17_0]
    have g19 : J.gv (J.sv h a 21 (J.w32 ((J.gv h a 21) + 1))) a 19 = J.gv h a 19 := by rw [J.gv_sv, if_neg (by omega)]
    have g20 : J.gv (J.sv h a 21 (J.w32 ((J.gv h a 21) + 1))) a 20 = l.length := by rw [J.gv_sv, if_neg (by omega)]; exact c2
    generalize hM : J.w32 ((J.gv h a 21) + 1) = M at g19 g20 ⊢
    rw [g19, g20, c1]
    refine ⟨J.sb6a, ⟨J.sb6a, by decide⟩, J.sb6, rfl, by omega, ?_⟩
    have hok1 : J.Ok (J.sv h a 21 M) := (J.Ok_sv hok (by rw [c1]; decide)).1
    rw [b18_0, J.cl_sv, J.ln_sv]
    refine ⟨hia, ?_⟩
    -- what is known of the list after the count has changed
    have hl1 : J.AL (J.sv h a 21 M) a l := by
      refine ⟨c1, g20, by rw [g19, J.gv_sv, if_neg (by omega)]; exact c3, by rw [g19]; exact c4, by rw [g19]; exact c5, fun j hj => ?_, fun j j1 j2 => ?_⟩
      · rw [g19, J.gv_sv, if_neg (by intro z; exact hane z.1)]; exact c6 j hj
      · rw [g19] at j2 ⊢
        rw [J.gv_sv, if_neg (by intro z; exact hane z.1)]; exact c7 j j1 j2
    by_cases hfull : (l.length : Int) = J.ln h (J.gv h a 19)
    · rw [if_pos hfull, J.cl_sv, c1]
      refine ⟨rfl, by omega, J.al_grow hok1 hl1 (by rw [g19]; exact hfull) (by rw [J.us_sv]; exact hus) (by omega) (fun N n1 n2 => ?_)⟩
      rw [J.af_s, b18_10, g19, J.nx_sv]
      have hnxa : J.nx h ≠ a := by
        intro z
        have := hok.2.1 a (by omega)
        rw [this] at c1; cases c1
      have hnxe : J.gv h a 19 ≠ J.nx h := by
        intro z
        have := hok.2.1 (J.gv h a 19) (by omega)
        rw [this] at hc
        rcases hc with w | w <;> cases w
      have hxn : J.okK (J.cl h x) = true → x ≠ J.nx h := by
        intro z w
        have := hok.2.1 x (by omega)
        rw [this] at z
        revert z; decide
      have hnx0 := hok.2.2
      refine J.al_put (h := h) (l := l) (d - 1) hok ?_ ?_ ?_ ?_ (by omega) ?_ 0
      · show (if a = J.nx (J.sv h a 21 M) then 214 else J.cl h a) = 6; rw [if_neg (show ¬ a = J.nx (J.sv h a 21 M) from fun z => hnxa (Eq.symm z))]; exact c1
      · simp only [J.cl_sv, J.cl_cpy, J.cl_nw, J.nx_sv]; rw [if_pos trivial]
      · refine hx.imp id (fun z => ?_)
        show J.okK (if x = J.nx (J.sv h a 21 M) then 214 else J.cl h x) = true
        rw [if_neg (show ¬ x = J.nx (J.sv h a 21 M) from hxn z)]; exact z
      · simp only [J.ln_sv, J.ln_cpy, J.ln_nw, J.nx_sv]; rw [if_pos trivial]; exact n1
      · rw [J.af_v, b17_23]
        refine ⟨Or.inr rfl, rfl, ?_, ?_, ?_, ?_⟩
        · have e19 : J.gv (J.sv (J.sv (J.sv (J.cpy (J.nw (J.sv h a 21 M) 214 N (7 + N)) (J.gv h a 19) 0 (J.nx h) 0 l.length) a 19 (J.nx h)) (J.nx h) l.length x) a 20 ((l.length : Int) + 1)) a 19 = J.nx h := by
            rw [J.gv_sv, if_neg (by omega), J.gv_sv, if_neg (by intro z; exact hnxa z.1.symm), J.gv_sv, if_pos ⟨rfl, rfl⟩]
          have gel : ∀ j : Int, J.gv (J.sv (J.sv (J.sv (J.cpy (J.nw (J.sv h a 21 M) 214 N (7 + N)) (J.gv h a 19) 0 (J.nx h) 0 l.length) a 19 (J.nx h)) (J.nx h) l.length x) a 20 ((l.length : Int) + 1)) (J.nx h) j = if j = l.length then x else if 0 ≤ j ∧ j < l.length then J.gv h (J.gv h a 19) j else 0 := by
            intro j
            rw [J.gv_sv, if_neg (by intro z; exact hnxa z.1), J.gv_sv]
            by_cases ej : j = l.length
            · rw [if_pos ⟨rfl, ej⟩, if_pos ej]
            · rw [if_neg (fun z => ej z.2), if_neg ej, J.gv_sv, if_neg (by intro z; exact hnxa z.1), J.gv_cpy]
              by_cases er : 0 ≤ j ∧ j < l.length
              · rw [if_pos ⟨rfl, by omega, by omega⟩, if_pos er, J.gv_nw, if_neg (show ¬ J.gv h a 19 = J.nx (J.sv h a 21 M) from hnxe), J.gv_sv, if_neg (by intro z; exact hane z.1), show (0 : Int) + (j - 0) = j by omega]
              · rw [if_neg (by omega), if_neg er, J.gv_nw, if_pos (show J.nx h = J.nx (J.sv h a 21 M) from rfl)]
          refine ⟨?_, ?_, ?_, ?_, ?_, fun j hj => ?_, fun j j1 j2 => ?_⟩
          · show (if a = J.nx (J.sv h a 21 M) then 214 else J.cl h a) = 6; rw [if_neg (show ¬ a = J.nx (J.sv h a 21 M) from fun z => hnxa (Eq.symm z))]; exact c1
          · rw [J.gv_sv, if_pos ⟨rfl, rfl⟩]; simp
          · left
            rw [e19]
            simp only [J.cl_sv, J.cl_cpy, J.cl_nw, J.nx_sv]; rw [if_pos trivial]
          · rw [e19]
            simp only [J.ln_sv, J.ln_cpy, J.ln_nw, J.nx_sv]
            rw [if_pos trivial]; simp; omega
          · rw [e19]
            simp only [J.ln_sv, J.ln_cpy, J.ln_nw, J.nx_sv]
            rw [if_pos trivial]; omega
          · rw [e19, gel]
            have hj' : j < l.length + 1 := by simpa using hj
            by_cases ej : (j : Int) = l.length
            · rw [if_pos ej]
              have : j = l.length := by omega
              rw [this]; simp
            · rw [if_neg ej, if_pos ⟨by omega, by omega⟩, c6 j (by omega)]
              simp [List.getElem?_append_left (show j < l.length by omega)]
          · rw [e19] at j2 ⊢
            rw [gel]
            by_cases ej : j = l.length
            · rw [if_pos ej]
              refine hx.imp id (fun z => ?_)
              show J.okK (if x = J.nx (J.sv h a 21 M) then 214 else J.cl h x) = true
              rw [if_neg (show ¬ x = J.nx (J.sv h a 21 M) from hxn z)]; exact z
            · rw [if_neg ej]
              by_cases er : 0 ≤ j ∧ j < l.length
              · rw [if_pos er]
                refine (c7 j er.1 (by omega)).imp id (fun z => ?_)
                have hw : J.gv h (J.gv h a 19) j ≠ J.nx h := by
                  intro w
                  have := hok.2.1 (J.gv h (J.gv h a 19) j) (by omega)
                  rw [this] at z
                  revert z; decide
                show J.okK (if J.gv h (J.gv h a 19) j = J.nx (J.sv h a 21 M) then 214 else J.cl h (J.gv h (J.gv h a 19) j)) = true
                rw [if_neg (show ¬ J.gv h (J.gv h a 19) j = J.nx (J.sv h a 21 M) from hw)]; exact z
              · rw [if_neg er]; exact Or.inl rfl
        · intro y i y1 y2 y3
          rw [J.gv_sv, if_neg (fun z => y2 z.1), J.gv_sv, if_neg (fun z => by omega), J.gv_sv, if_neg (fun z => y2 z.1), J.gv_cpy, if_neg (fun z => by omega), J.gv_nw, if_neg (by show y ≠ J.nx h; omega), J.gv_sv, if_neg (fun z => y2 z.1)]
        · right
          rw [J.gv_sv, if_neg (by omega), J.gv_sv, if_neg (by intro z; exact hnxa z.1.symm), J.gv_sv, if_pos ⟨rfl, rfl⟩]
          exact Int.le_refl _
        · show J.us h + (7 + N) ≤ _
          omega
    · rw [if_neg hfull]
      have he214 : J.cl h (J.gv h a 19) = 214 := by
        rcases c3 with z | ⟨z1, z2, z3⟩
        · exact z
        · exact absurd (by omega) hfull
      refine J.al_put (h := h) (l := l) (d - 1) hok c1 he214 hx (by rw [J.ln_sv]; omega) (by omega) ?_ 0
      rw [J.af_v, b17_23]
      refine ⟨Or.inr rfl, rfl, ?_, ?_, Or.inl ?_, ?_⟩
      · have e19 : J.gv (J.sv (J.sv (J.sv h a 21 M) (J.gv h a 19) l.length x) a 20 ((l.length : Int) + 1)) a 19 = J.gv h a 19 := by
          rw [J.gv_sv, if_neg (by omega), J.gv_sv, if_neg (by intro z; exact hane z.1.symm), g19]
        have gel : ∀ j : Int, J.gv (J.sv (J.sv (J.sv h a 21 M) (J.gv h a 19) l.length x) a 20 ((l.length : Int) + 1)) (J.gv h a 19) j = if j = l.length then x else J.gv h (J.gv h a 19) j := by
          intro j
          rw [J.gv_sv, if_neg (by intro z; exact hane z.1), J.gv_sv]
          by_cases ej : j = l.length
          · rw [if_pos ⟨rfl, ej⟩, if_pos ej]
          · rw [if_neg (fun z => ej z.2), if_neg ej, J.gv_sv, if_neg (by intro z; exact hane z.1)]
        refine ⟨c1, ?_, ?_, ?_, ?_, fun j hj => ?_, fun j j1 j2 => ?_⟩
        · rw [J.gv_sv, if_pos ⟨rfl, rfl⟩]; simp
        · left; rw [e19]; exact he214
        · rw [e19]; show _ ≤ J.ln h (J.gv h a 19); simp; omega
        · rw [e19]; exact c5
        · rw [e19, gel]
          have hj' : j < l.length + 1 := by simpa using hj
          by_cases ej : (j : Int) = l.length
          · rw [if_pos ej]
            have : j = l.length := by omega
            rw [this]; simp
          · rw [if_neg ej, c6 j (by omega)]
            simp [List.getElem?_append_left (show j < l.length by omega)]
        · rw [e19] at j2 ⊢
          rw [gel]
          by_cases ej : j = l.length
          · rw [if_pos ej]; exact hx
          · rw [if_neg ej]; exact c7 j j1 j2
      · intro y i y1 y2 y3
        rw [J.gv_sv, if_neg (fun z => y2 z.1), J.gv_sv, if_neg (fun z => y3 z.1), J.gv_sv, if_neg (fun z => y2 z.1)]
      · rw [J.gv_sv, if_neg (by omega), J.gv_sv, if_neg (by intro z; exact hane z.1.symm), g19]
      · show J.us h ≤ _; omega
  refine J.WP_mono _ _ _ _ _ _ _ _ (fun o h' q => ?_) (J.keep hok hk)
  obtain ⟨⟨q1, q2, q3, q4, q5⟩, q6, q7⟩ := q
  subst q1
  exact hQ h' q2 q6 q7 q3 q4 q5
theorem J.al_init (ha : J.cl h a = 6) (hd : 2 ≤ d) (hQ : Q (Sum.inl none) (J.sv (J.sv h a 21 0) a 19 (J.gv (J.sv h a 21 0) (-1) 1))) : J.WP d 9 0 [J.R a] [] h Q := by
  rw [b9_0, ha]
  refine ⟨J.ik6, by omega, ?_⟩
  rw [b10_0, ha]
  refine ⟨J.ik6, by omega, ?_⟩
  rw [b11_0, ha]
  refine ⟨J.ik6, ?_⟩
  rw [J.af_v, b10_4, ha]
  refine ⟨⟨J.sb6a, by decide⟩, ?_⟩
  rw [J.af_v, b9_4, J.cl_sv, ha]
  exact ⟨⟨J.sb6, by decide⟩, hQ⟩
theorem J.al_new (hok : J.Ok h) (ha : J.cl h a = 6) (hs : J.gv h a 20 = 0) (hc : J.cl h (J.gv h (-1) 1) = 311) (hn : J.ln h (J.gv h (-1) 1) = 0) : J.AL (J.sv (J.sv h a 21 0) a 19 (J.gv (J.sv h a 21 0) (-1) 1)) a [] := by
  have hm1 : (-1 : Int) ≠ a := by
    intro z
    have := hok.1 a (by omega)
    rw [this] at ha; cases ha
  have e1 : J.gv (J.sv h a 21 0) (-1) 1 = J.gv h (-1) 1 := by rw [J.gv_sv, if_neg (fun z => hm1 z.1)]
  have e2 : J.gv (J.sv (J.sv h a 21 0) a 19 (J.gv (J.sv h a 21 0) (-1) 1)) a 19 = J.gv h (-1) 1 := by rw [J.gv_sv, if_pos ⟨rfl, rfl⟩, e1]
  have e3 : J.gv (J.sv (J.sv h a 21 0) a 19 (J.gv (J.sv h a 21 0) (-1) 1)) (-1) 1 = J.gv h (-1) 1 := by rw [J.gv_sv, if_neg (fun z => hm1 z.1), e1]
  refine ⟨ha, ?_, ?_, ?_, ?_, fun j hj => ?_, fun j j1 j2 => ?_⟩
  · rw [J.gv_sv, if_neg (by omega), J.gv_sv, if_neg (by omega), hs]; rfl
  · right; rw [e2, e3]; exact ⟨rfl, hc, hn⟩
  · rw [e2]; show (0 : Int) ≤ J.ln h (J.gv h (-1) 1); omega
  · rw [e2]; show J.ln h (J.gv h (-1) 1) < 100000; omega
  · cases hj
  · rw [e2] at j2
    have j2 : j < J.ln h (J.gv h (-1) 1) := j2
    omega
theorem J.al_empty (hl : J.AL h a l) (hQ : Q (Sum.inl (some (J.I (if l.length = 0 then 1 else 0)))) h) : J.WP d 354 0 [J.R a] [] h Q := by
  rw [b354_0, hl.1, hl.2.1]
  refine ⟨J.sb6, ?_⟩
  by_cases e : l.length = 0
  · rw [if_pos (by omega), b354_12]; rw [if_pos e] at hQ; exact ⟨Or.inr rfl, hQ⟩
  · rw [if_neg (by omega), b354_12]; rw [if_neg e] at hQ; exact ⟨Or.inl rfl, hQ⟩
/-- where a thing lies, by identity (its class has Object's equals) -/
theorem J.al_find_from (hl : J.AL h a l) {x : Int} (hs : J.sel (J.cl h x) 229 = some (364, 2)) (hd : 1 ≤ d) : ∀ (n k : Nat), n + k = l.length → (∀ j : Nat, j < k → l.getD j 0 ≠ x) → (∀ i : Int, ((∃ m : Nat, i = m ∧ m < l.length ∧ l.getD m 0 = x ∧ ∀ j : Nat, j < m → l.getD j 0 ≠ x) ∨ (i = -1 ∧ ∀ j : Nat, j < l.length → l.getD j 0 ≠ x)) → Q (Sum.inl (some (J.I i))) h) → J.WP d 362 42 [J.R a, J.R x, J.I 0, J.I l.length, J.R (J.gv h a 19), J.I k] [] h Q := by
  obtain ⟨c1, c2, c3, c4, c5, c6, c7⟩ := hl
  have hisA : J.isA (J.cl h (J.gv h a 19)) 2 = true := by rcases c3 with z | ⟨-, z, -⟩ <;> rw [z] <;> decide
  intro n
  induction n with
  | zero =>
    intro k hk hno hQ
    rw [b362_42, if_neg (by omega), b362_69]
    exact hQ _ (Or.inr ⟨rfl, fun j hj => hno j (by omega)⟩)
  | succ n ih =>
    intro k hk hno hQ
    rw [b362_42, if_pos (by omega), c6 k (by omega)]
    refine ⟨⟨hisA, ⟨by omega, by omega⟩⟩, ?_⟩
    rw [J.r_virt i362_54 rfl _ rfl hs (by decide) rfl (by decide)]
    refine ⟨by omega, ?_⟩
    show J.WP (d - 1) 364 0 [J.R x, J.R (l.getD k 0)] [] h _
    rw [b364_0]
    by_cases e : x = l.getD k 0
    · rw [if_pos e, b364_10, J.af_s, b362_57, if_neg (by decide)]
      exact ⟨Or.inr rfl, hQ _ (Or.inl ⟨k, rfl, by omega, e.symm, hno⟩)⟩
    · rw [if_neg e, b364_10, J.af_s, b362_57, if_pos rfl, J.w32_id (by omega) (by omega)]
      refine ⟨Or.inl rfl, ?_⟩
      have := ih (k + 1) (by omega) (fun j hj => ?_) hQ
      · simpa using this
      · by_cases e2 : j = k
        · rw [e2]; exact fun z => e z.symm
        · exact hno j (by omega)
theorem J.al_find (hl : J.AL h a l) {x : Int} (hx : x ≠ 0) (hs : J.sel (J.cl h x) 229 = some (364, 2)) (hd : 2 ≤ d) (hQ : ∀ i : Int, ((∃ m : Nat, i = m ∧ m < l.length ∧ l.getD m 0 = x ∧ ∀ j : Nat, j < m → l.getD j 0 ≠ x) ∨ (i = -1 ∧ ∀ j : Nat, j < l.length → l.getD j 0 ≠ x)) → Q (Sum.inl (some (J.I i))) h) : J.WP d 361 0 [J.R a, J.R x] [] h Q := by
  rw [b361_0, hl.1, hl.2.1]
  refine ⟨J.sb6, rfl, by omega, ?_⟩
  rw [b362_0, hl.1, if_neg hx]
  refine ⟨J.sb6, J.al_find_from hl hs (by omega) l.length 0 (by omega) (fun j hj => by omega) (fun i hi => ?_)⟩
  rw [J.af_s, b361_10]
  exact hQ i hi
theorem J.al_contains (hl : J.AL h a l) {x : Int} (hx : x ≠ 0) (hs : J.sel (J.cl h x) 229 = some (364, 2)) (hd : 3 ≤ d) (hQ : Q (Sum.inl (some (J.I (if ∃ j : Nat, j < l.length ∧ l.getD j 0 = x then 1 else 0)))) h) : J.WP d 360 0 [J.R a, J.R x] [] h Q := by
  rw [b360_0, hl.1]
  refine ⟨rfl, by omega, J.al_find hl hx hs (by omega) (fun i hi => ?_)⟩
  rw [J.af_s, b360_5]
  rcases hi with ⟨m, e1, e2, e3, -⟩ | ⟨e1, e2⟩
  · rw [if_neg (by omega), b360_13]
    rw [if_pos ⟨m, e2, e3⟩] at hQ
    exact ⟨Or.inr rfl, hQ⟩
  · rw [if_pos (by omega), b360_13]
    rw [if_neg (fun ⟨j, j1, j2⟩ => e2 j j1 j2)] at hQ
    exact ⟨Or.inl rfl, hQ⟩
end
