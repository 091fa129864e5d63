/-! what every run keeps: classes and lengths of what is there, the constants; what is new lies behind -/
set_option maxRecDepth 100000
/-- a heap as it should be: nothing at or below 0, nothing behind the end -/
def J.Ok (h : J.H) : Prop := (∀ x : Int, x ≤ 0 → J.cl h x = 0) ∧ (∀ x : Int, J.nx h ≤ x → J.cl h x = 0) ∧ 0 < J.nx h
def J.Le (h h' : J.H) : Prop := J.nx h ≤ J.nx h' ∧ (∀ x : Int, x < J.nx h → J.cl h' x = J.cl h x ∧ J.ln h' x = J.ln h x) ∧ ∀ i : Int, J.gv h' (-1) i = J.gv h (-1) i
theorem J.Le.refl (h : J.H) : J.Le h h := ⟨Int.le_refl _, fun _ _ => ⟨rfl, rfl⟩, fun _ => rfl⟩
theorem J.Le.trans {a b c : J.H} (h1 : J.Le a b) (h2 : J.Le b c) : J.Le a c := ⟨Int.le_trans h1.1 h2.1, fun x hx => ⟨((h2.2.1 x (by have := h1.1; omega)).1).trans (h1.2.1 x hx).1, ((h2.2.1 x (by have := h1.1; omega)).2).trans (h1.2.1 x hx).2⟩, fun i => (h2.2.2 i).trans (h1.2.2 i)⟩
theorem J.Ok_sv {h : J.H} (hok : J.Ok h) {a i x : Int} (ha : J.cl h a ≠ 0) : J.Ok (J.sv h a i x) ∧ J.Le h (J.sv h a i x) := by
  refine ⟨hok, Int.le_refl _, fun _ _ => ⟨rfl, rfl⟩, fun j => ?_⟩
  rw [J.gv_sv, if_neg]
  intro z
  exact ha (hok.1 a (by omega))
theorem J.Ok_nw {h : J.H} (hok : J.Ok h) {c : Nat} {n w : Int} : J.Ok (J.nw h c n w) ∧ J.Le h (J.nw h c n w) := by
  have h3 := hok.2.2
  refine ⟨⟨fun x hx => ?_, fun x hx => ?_, ?_⟩, ?_, fun x hx => ⟨?_, ?_⟩, fun j => ?_⟩
  · rw [J.cl_nw, if_neg (by omega)]; exact hok.1 x hx
  · rw [J.nx_nw] at hx; rw [J.cl_nw, if_neg (by omega)]; exact hok.2.1 x (by omega)
  · rw [J.nx_nw]; omega
  · rw [J.nx_nw]; omega
  · rw [J.cl_nw, if_neg (by omega)]
  · rw [J.ln_nw, if_neg (by omega)]
  · rw [J.gv_nw, if_neg (by omega)]
theorem J.Ok_cpy {h : J.H} (hok : J.Ok h) {a i b j n : Int} (hb : J.cl h b ≠ 0) : J.Ok (J.cpy h a i b j n) ∧ J.Le h (J.cpy h a i b j n) := by
  refine ⟨hok, Int.le_refl _, fun _ _ => ⟨rfl, rfl⟩, fun y => ?_⟩
  show (if (-1 : Int) = b ∧ _ then _ else J.gv h (-1) y) = _
  rw [if_neg]
  intro z
  exact hb (hok.1 b (by omega))
theorem J.Ok_ex {h : J.H} (hok : J.Ok h) {a : Int} (ha : J.cl h a ≠ 0) : J.Ok (J.ex h a) ∧ J.Le h (J.ex h a) := by
  unfold J.ex
  have h1 := J.Ok_sv hok (i := 164) (x := a) ha
  have h2 := J.Ok_sv h1.1 (a := a) (i := 165) (x := J.gv h (-1) 3) ha
  have h3 := J.Ok_sv h2.1 (a := a) (i := 166) (x := J.gv h (-1) 4) ha
  exact ⟨h3.1, h1.2.trans (h2.2.trans h3.2)⟩
theorem J.Ok_cl {h : J.H} (hok : J.Ok h) {c : Nat} {a n w i j m : Int} (hc : c ≠ 0) : J.Ok (J.cpy (J.nw h c n w) a i (J.nx h) j m) ∧ J.Le h (J.cpy (J.nw h c n w) a i (J.nx h) j m) := by
  have h1 := J.Ok_nw hok (c := c) (n := n) (w := w)
  have h2 := J.Ok_cpy h1.1 (a := a) (i := i) (b := J.nx h) (j := j) (n := m) (by rw [J.cl_nw, if_pos rfl]; exact hc)
  exact ⟨h2.1, h1.2.trans h2.2⟩
def J.Gd (h : J.H) (x : Option J.Rs) : Prop := match x with
  | some (Sum.inl (_, _, _, h')) => J.Ok h' ∧ J.Le h h'
  | some (Sum.inr (Sum.inr (_, h'))) => J.Ok h' ∧ J.Le h h'
  | _ => True
theorem J.Gd_if {h : J.H} {c : Prop} {i : Decidable c} {x y : Option J.Rs} (h1 : c → J.Gd h x) (h2 : ¬ c → J.Gd h y) : J.Gd h (if c then x else y) := by
  by_cases hc : c
  · rw [if_pos hc]; exact h1 hc
  · rw [if_neg hc]; exact h2 hc
theorem J.Gd_go {h : J.H} (hok : J.Ok h) (n : Nat) (ls st : List J.V) : J.Gd h (J.go n ls st h) := ⟨hok, J.Le.refl h⟩
theorem J.Gd_go2 {h h' : J.H} (n : Nat) (ls st : List J.V) (h1 : J.Ok h' ∧ J.Le h h') : J.Gd h (J.go n ls st h') := h1
theorem J.Gd_fin {h : J.H} (hok : J.Ok h) (o : J.O) : J.Gd h (J.fin o h) := ⟨hok, J.Le.refl h⟩
theorem J.sb_ne {c d : Nat} (h : J.sb c d = true) : c ≠ 0 := by
  intro e
  rw [e] at h
  have : J.ik 0 = true := (Bool.and_eq_true_iff.mp h).1
  revert this; decide
theorem J.na_gd {h : J.H} (hok : J.Ok h) (n : Nat) (ls st : List J.V) (c : Nat) (z : Int) : J.Gd h (J.na n ls st h c z) := J.Gd_if (fun q => J.Gd_go2 _ _ _ (J.Ok_nw hok)) (fun _ => trivial)
theorem J.isA_ne {c t : Nat} (h : J.isA c t = true) : c ≠ 0 := by
  intro e
  rw [e] at h
  unfold J.isA at h
  split at h <;> simp at h
set_option maxHeartbeats 4000000 in
theorem J.sx_gd {i : Instr} {n r s : Nat} {t : Int} {ls st : List J.V} {h : J.H} (hok : J.Ok h) : J.Gd h (J.sx i n r s t ls st h) := by
  cases i
  all_goals first
    | exact trivial
    | exact J.Gd_go hok _ _ _
    | (unfold J.sx
       dsimp only
       repeat' split
       all_goals first
         | exact trivial
         | exact J.Gd_go hok _ _ _
         | exact J.Gd_fin hok _
         | exact J.na_gd hok _ _ _ _ _
         | exact J.Gd_go2 _ _ _ (J.Ok_nw hok)
         | (rename_i hq; exact J.Gd_go2 _ _ _ (J.Ok_sv hok (J.sb_ne hq.1)))
         | (rename_i hq; exact J.Gd_go2 _ _ _ (J.Ok_sv hok (by have := hq.1; omega)))
         | (rename_i hq; exact J.Gd_go2 _ _ _ (J.Ok_sv hok (J.isA_ne hq.2.1)))
         | (rename_i hq; exact J.Gd_go2 _ _ _ (J.Ok_cpy hok (by rcases hq.2.2.2.2.2.2.2 with w | w <;> (have := w.2.1; omega))))
         | (rename_i hq; exact J.Gd_go2 _ _ _ (J.Ok_ex hok (by have := hq.2.1; omega)))
         | exact J.Gd_go2 _ _ _ (J.Ok_cl hok (by decide)))
/-- every run keeps what is there -/
theorem J.keep {d k pc : Nat} {ls st : List J.V} {h : J.H} {Q : J.O → J.H → Prop} (hok : J.Ok h) (x : J.WP d k pc ls st h Q) : J.WP d k pc ls st h (fun o h' => Q o h' ∧ J.Ok h' ∧ J.Le h h') := by
  refine x (fun d k pc ls st h Q => J.Ok h → J.WP d k pc ls st h (fun o h' => Q o h' ∧ J.Ok h' ∧ J.Le h h')) ?_ ?_ hok
  · intro d k pc ls st h Q Q' hQ y hk
    exact J.WP_mono _ _ _ _ _ _ _ _ (fun o h' q => ⟨hQ _ _ q.1, q.2⟩) (y hk)
  · intro d k pc ls st h Q y hk
    refine J.WP_of ?_
    unfold J.ST at y ⊢
    cases hc : J.cd k pc with
    | none => rw [hc] at y; exact y
    | some z =>
      obtain ⟨i, n, r, s, t⟩ := z
      rw [hc] at y
      dsimp only at y ⊢
      have g := J.sx_gd (i := i) (n := n) (r := r) (s := s) (t := t) (ls := ls) (st := st) hk
      generalize J.sx i n r s t ls st h = w at y g ⊢
      match w, y, g with
      | none, y, _ => exact y
      | some (Sum.inl (pc', ls', st', h')), y, g =>
        exact J.WP_mono _ _ _ _ _ _ _ _ (fun o h2 q => ⟨q.1, q.2.1, g.2.trans q.2.2⟩) (y g.1)
      | some (Sum.inr (Sum.inl (k', l0, st'))), y, _ =>
        refine ⟨y.1, J.WP_mono _ _ _ _ _ _ _ _ (fun o h2 q => ?_) (y.2 hk)⟩
        obtain ⟨q1, q2, q3⟩ := q
        match o, q1 with
        | Sum.inl none, q1 => exact J.WP_mono _ _ _ _ _ _ _ _ (fun o h3 w => ⟨w.1, w.2.1, q3.trans w.2.2⟩) (q1 q2)
        | Sum.inl (some v), q1 => exact J.WP_mono _ _ _ _ _ _ _ _ (fun o h3 w => ⟨w.1, w.2.1, q3.trans w.2.2⟩) (q1 q2)
        | Sum.inr e, q1 =>
          obtain ⟨x1, x2⟩ := q1
          refine ⟨x1, ?_⟩
          cases hh : J.hd k pc with
          | some q => rw [hh] at x2; exact J.WP_mono _ _ _ _ _ _ _ _ (fun o h3 w => ⟨w.1, w.2.1, q3.trans w.2.2⟩) (x2 q2)
          | none => rw [hh] at x2; exact ⟨x2, q2, q3⟩
      | some (Sum.inr (Sum.inr (o, h'))), y, g => exact ⟨y.1, y.2, g⟩
