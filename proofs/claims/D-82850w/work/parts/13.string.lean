/-! contracts: java.lang.String (all of one byte a sign) -/
set_option maxRecDepth 100000
theorem J.sb23 : J.sb 23 23 = true := by decide
theorem J.sb321 : J.sb 321 23 = true := by decide
def J.By (h : J.H) (v : Int) (bs : List Int) : Prop := (J.cl h v = 204 ∨ J.cl h v = 304) ∧ J.ln h v = bs.length ∧ ∀ j : Nat, j < bs.length → J.gv h v j = bs.getD j 0
/-- a String and its bytes -/
def J.SS (h : J.H) (a : Int) (bs : List Int) : Prop := (J.cl h a = 23 ∨ J.cl h a = 321) ∧ J.gv h a 171 = 0 ∧ J.By h (J.gv h a 170) bs ∧ bs.length < 100000
theorem J.By.ia {h : J.H} {v : Int} {bs : List Int} (x : J.By h v bs) : J.ia (J.cl h v) = true := by rcases x.1 with z | z <;> rw [z] <;> decide
theorem J.By.isA {h : J.H} {v : Int} {bs : List Int} (x : J.By h v bs) : J.isA (J.cl h v) 3 = true := by rcases x.1 with z | z <;> rw [z] <;> decide
theorem J.SS.sb {h : J.H} {v : Int} {bs : List Int} (x : J.SS h v bs) : J.sb (J.cl h v) 23 = true := by rcases x.1 with z | z <;> rw [z] <;> decide
theorem J.SS.ne {h : J.H} {v : Int} {bs : List Int} (x : J.SS h v bs) (hok : J.cl h 0 = 0) : v ≠ 0 := by
  intro z; rw [z] at x; have := x.1; omega
theorem J.getD_ext {a b : List Int} (h1 : a.length = b.length) (h2 : ∀ j : Nat, j < a.length → a.getD j 0 = b.getD j 0) : a = b := by
  refine List.ext_getElem h1 (fun j j1 j2 => ?_)
  have := h2 j j1
  simpa [List.getD_eq_getElem?_getD, j1, j2] using this
theorem J.By.uq {h : J.H} {v : Int} {a b : List Int} (x : J.By h v a) (y : J.By h v b) : a = b := by
  have hl : a.length = b.length := by have := x.2.1.symm.trans y.2.1; omega
  exact J.getD_ext hl (fun j hj => (x.2.2 j hj).symm.trans (y.2.2 j (by omega)))
section
variable {d : Nat} {h : J.H} {Q : J.O → J.H → Prop} {a b : Int} {bs cs : List Int}
theorem J.s_coder (hs : J.SS h a bs) (hc : J.gv h (-1) 0 = 1) (hQ : Q (Sum.inl (some (J.I 0))) h) : J.WP d 95 0 [J.R a] [] h Q := by
  rw [b95_0, hc, if_neg (by decide), b95_14, hs.2.1]
  exact ⟨hs.sb, ⟨by omega, by omega⟩, hQ⟩
theorem J.shr0 (x : Int) : J.shr32 x 0 = x := by unfold J.shr32; exact Int.ediv_one x
theorem J.s_length (hs : J.SS h a bs) (hc : J.gv h (-1) 0 = 1) (hd : 1 ≤ d) (hQ : Q (Sum.inl (some (J.I bs.length))) h) : J.WP d 94 0 [J.R a] [] h Q := by
  rw [b94_0]
  refine ⟨hs.sb, hs.2.2.1.ia, ?_⟩
  have key : J.WP (d - 1) 95 0 [J.R a] [] h (J.af J.WP d 94 6 9 [J.R a] [J.I (J.ln h (J.gv h a 170))] Q) := by
    refine J.s_coder hs hc ?_
    rw [J.af_s, b94_9, J.shr0, hs.2.2.1.2.1]
    exact hQ
  rcases hs.1 with z | z
  · rw [b94_6_c23 _ _ _ _ _ _ z]; exact ⟨by omega, key⟩
  · rw [b94_6_c321 _ _ _ _ _ _ z]; exact ⟨by omega, key⟩
theorem J.s_eqb {v w : Int} (hv : J.By h v bs) (hw : J.By h w cs) (hl : bs.length = cs.length) (hb : bs.length < 100000) : ∀ (n k : Nat), n + k = bs.length → (∀ j : Nat, j < k → bs.getD j 0 = cs.getD j 0) → Q (Sum.inl (some (J.I (if bs = cs then 1 else 0)))) h → J.WP d 143 9 [J.R v, J.R w, J.I k] [] h Q := by
  intro n
  induction n with
  | zero =>
    intro k hk hj hQ
    rw [b143_9, hv.2.1, if_neg (by omega)]
    rw [if_pos (J.getD_ext hl (fun j j1 => hj j (by omega)))] at hQ
    exact ⟨hv.ia, Or.inr rfl, hQ⟩
  | succ n ih =>
    intro k hk hj hQ
    rw [b143_9, hv.2.1, hw.2.1, if_pos (by omega), hv.2.2 k (by omega), hw.2.2 k (by omega)]
    refine ⟨hv.ia, ⟨hv.isA, ⟨by omega, by omega⟩⟩, ⟨hw.isA, ⟨by omega, by omega⟩⟩, ?_⟩
    by_cases e : bs.getD k 0 = cs.getD k 0
    · rw [if_pos e, J.w32_id (by omega) (by omega)]
      have := ih (k + 1) (by omega) (fun j j1 => ?_) hQ
      · simpa using this
      · by_cases e2 : j = k
        · rw [e2]; exact e
        · exact hj j (by omega)
    · rw [if_neg e]
      rw [if_neg (fun z => e (by rw [z]))] at hQ
      exact ⟨Or.inl rfl, hQ⟩
/-- equals between Strings -/
theorem J.s_equals (hs : J.SS h a bs) (ht : J.SS h b cs) (hc : J.gv h (-1) 0 = 1) (h0 : J.cl h 0 = 0) (hd : 1 ≤ d) (hQ : Q (Sum.inl (some (J.I (if bs = cs then 1 else 0)))) h) : J.WP d 142 0 [J.R a, J.R b, J.U] [] h Q := by
  rw [b142_0]
  by_cases e : a = b
  · rw [if_pos e]
    subst e
    rw [if_pos (hs.2.2.1.uq ht.2.2.1)] at hQ
    exact ⟨Or.inr rfl, hQ⟩
  · rw [if_neg e]
    have hb0 := ht.ne h0
    refine ⟨Or.inr (Or.inl ht.sb), ?_⟩
    have e1 : (if b ≠ 0 ∧ J.sb (J.cl h b) 23 = true then (1 : Int) else 0) = 1 := if_pos ⟨hb0, ht.sb⟩
    rw [e1, if_neg (by decide), hc, if_neg (by decide), hs.2.1, ht.2.1, if_pos rfl]
    refine ⟨Or.inr ht.sb, hs.sb, ht.sb, ?_⟩
    rw [b142_36]
    refine ⟨hs.sb, ht.sb, by omega, ?_⟩
    have fin : ∀ v : Int, (v = 0 ∨ v = 1) → Q (Sum.inl (some (J.I v))) h → J.af J.WP d 142 44 47 [J.R a, J.R b, J.R b] [] Q (Sum.inl (some (J.I v))) h := by
      intro v hv q
      rw [J.af_s, b142_47]
      rcases hv with z | z
      · subst z; rw [if_pos rfl, b142_54, b142_55]; exact ⟨Or.inl rfl, q⟩
      · subst z; rw [if_neg (by decide), b142_55]; exact ⟨Or.inr rfl, q⟩
    rw [b143_0, hs.2.2.1.2.1, ht.2.2.1.2.1]
    refine ⟨hs.2.2.1.ia, ht.2.2.1.ia, ?_⟩
    by_cases el : bs.length = cs.length
    · rw [if_pos (by omega)]
      refine J.s_eqb hs.2.2.1 ht.2.2.1 el hs.2.2.2 bs.length 0 (by omega) (fun j hj => by omega) ?_
      refine fin _ ?_ hQ
      by_cases eq : bs = cs
      · rw [if_pos eq]; exact Or.inr rfl
      · rw [if_neg eq]; exact Or.inl rfl
    · rw [if_neg (by omega)]
      rw [if_neg (fun z => el (by rw [z]))] at hQ
      exact ⟨Or.inl rfl, fin 0 (Or.inl rfl) hQ⟩
end
