/-! the small machine: a rule an instruction -/
section
variable {d k pc : Nat} {ls st : List J.V} {h : J.H} {Q : J.O → J.H → Prop} {n r s : Nat} {t : Int}
def J.aok (h : J.H) (a y : Int) : Prop := y = 0 ∨ (J.cpt (J.cl h a) = 0 ∧ J.okK (J.cl h y) = true) ∨ J.sb (J.cl h y) (J.cpt (J.cl h a)) = true
def J.iok (h : J.H) (a : Int) (r : Nat) : Prop := a = 0 ∨ J.sb (J.cl h a) r = true ∨ J.nc (J.cl h a) r = true
theorem J.if_ite {c : Prop} (inst : Decidable c) {d k r n : Nat} {ls st : List J.V} {h : J.H} {Q : J.O → J.H → Prop} : J.WP d k (if c then r else n) ls st h Q ↔ if c then J.WP d k r ls st h Q else J.WP d k n ls st h Q := by
  by_cases x : c
  · rw [if_pos x, if_pos x]
  · rw [if_neg x, if_neg x]
theorem J.ite2 {c A B A' B' : Prop} {inst : Decidable c} (h1 : A ↔ A') (h2 : B ↔ B') : (if c then A else B) ↔ (if c then A' else B') := by
  by_cases x : c
  · rw [if_pos x, if_pos x]; exact h1
  · rw [if_neg x, if_neg x]; exact h2
theorem J.cg {c A A' : Prop} (h1 : A ↔ A') : (c ∧ A) ↔ (c ∧ A') := and_congr_right fun _ => h1
theorem J.tru {c A : Prop} (h : c) : (c ∧ A) ↔ A := ⟨fun q => q.2, fun q => ⟨h, q⟩⟩
theorem J.chk {P : J.Pd} {c : Prop} {inst : Decidable c} {x : Option J.Rs} {d k pc n : Nat} {ls : List J.V} {h : J.H} {Q : J.O → J.H → Prop} : J.SR P d k pc n ls h Q (if c then x else none) ↔ c ∧ J.SR P d k pc n ls h Q x := by
  by_cases y : c
  · rw [if_pos y]; exact ⟨fun z => ⟨y, z⟩, fun z => z.2⟩
  · rw [if_neg y]; exact ⟨fun z => z.elim, fun z => absurd z.1 y⟩
theorem J.chkn {P : J.Pd} {c : Prop} {inst : Decidable c} {x : Option J.Rs} {d k pc n : Nat} {ls : List J.V} {h : J.H} {Q : J.O → J.H → Prop} : J.SR P d k pc n ls h Q (if c then none else x) ↔ ¬ c ∧ J.SR P d k pc n ls h Q x := by
  by_cases y : c
  · rw [if_pos y]; exact ⟨fun z => z.elim, fun z => absurd y z.1⟩
  · rw [if_neg y]; exact ⟨fun z => ⟨y, z⟩, fun z => z.2⟩
theorem J.r_null (hc : J.cd k pc = some (.aconst_null, n, r, s, t)) : J.WP d k pc ls st h Q ↔ J.WP d k n ls (J.R 0 :: st) h Q := J.at hc
theorem J.r_iconst {x : Int} (hc : J.cd k pc = some (.iconst x, n, r, s, t)) : J.WP d k pc ls st h Q ↔ J.WP d k n ls (J.I x :: st) h Q := J.at hc
theorem J.r_lconst {x : Fin 2} (hc : J.cd k pc = some (.lconst x, n, r, s, t)) {y : Int} (hy : (x.val : Int) = y) : J.WP d k pc ls st h Q ↔ J.WP d k n ls (J.L y :: st) h Q := by subst hy; exact J.at hc
theorem J.r_ldc {x : Nat} (hc : J.cd k pc = some (.ldc x, n, r, 0, t)) : J.WP d k pc ls st h Q ↔ J.WP d k n ls (J.I t :: st) h Q := J.at hc
theorem J.r_ldcs {x : Nat} (hc : J.cd k pc = some (.ldc x, n, r, 1, t)) : J.WP d k pc ls st h Q ↔ J.WP d k n ls (J.R (J.gv h (-1) r) :: st) h Q := J.at hc
theorem J.r_ldc2 {x : Nat} (hc : J.cd k pc = some (.ldc2_w x, n, r, s, t)) : J.WP d k pc ls st h Q ↔ J.WP d k n ls (J.L t :: st) h Q := J.at hc
theorem J.r_iload {j : Nat} {x : Int} (hc : J.cd k pc = some (.iload j, n, r, s, t)) (hl : ls[j]? = some (J.I x)) : J.WP d k pc ls st h Q ↔ J.WP d k n ls (J.I x :: st) h Q := by rw [J.at hc, J.sx, hl]; exact Iff.rfl
theorem J.r_lload {j : Nat} {x : Int} (hc : J.cd k pc = some (.lload j, n, r, s, t)) (hl : ls[j]? = some (J.L x)) : J.WP d k pc ls st h Q ↔ J.WP d k n ls (J.L x :: st) h Q := by rw [J.at hc, J.sx, hl]; exact Iff.rfl
theorem J.r_aload {j : Nat} {x : Int} (hc : J.cd k pc = some (.aload j, n, r, s, t)) (hl : ls[j]? = some (J.R x)) : J.WP d k pc ls st h Q ↔ J.WP d k n ls (J.R x :: st) h Q := by rw [J.at hc, J.sx, hl]; exact Iff.rfl
theorem J.r_istore {j : Nat} {x : Int} {l' : List J.V} (hc : J.cd k pc = some (.istore j, n, r, s, t)) (hj : j < ls.length) (hl : J.st1 ls j (J.I x) = l') : J.WP d k pc ls (J.I x :: st) h Q ↔ J.WP d k n l' st h Q := by
  subst hl; rw [J.at hc]; show J.SR _ _ _ _ _ _ _ _ (if j < ls.length then _ else none) ↔ _; rw [if_pos hj]; exact Iff.rfl
theorem J.r_lstore {j : Nat} {x : Int} {l' : List J.V} (hc : J.cd k pc = some (.lstore j, n, r, s, t)) (hj : j + 1 < ls.length) (hl : J.st2 ls j (J.L x) = l') : J.WP d k pc ls (J.L x :: st) h Q ↔ J.WP d k n l' st h Q := by
  subst hl; rw [J.at hc]; show J.SR _ _ _ _ _ _ _ _ (if j + 1 < ls.length then _ else none) ↔ _; rw [if_pos hj]; exact Iff.rfl
theorem J.r_astore {j : Nat} {x : Int} {l' : List J.V} (hc : J.cd k pc = some (.astore j, n, r, s, t)) (hj : j < ls.length) (hl : J.st1 ls j (J.R x) = l') : J.WP d k pc ls (J.R x :: st) h Q ↔ J.WP d k n l' st h Q := by
  subst hl; rw [J.at hc]; show J.SR _ _ _ _ _ _ _ _ (if j < ls.length then _ else none) ↔ _; rw [if_pos hj]; exact Iff.rfl
theorem J.r_iinc {j : Nat} {x c : Int} {l' : List J.V} (hc : J.cd k pc = some (.iinc j c, n, r, s, t)) (hl : ls[j]? = some (J.I x)) (hl' : ls.set j (J.I (J.w32 (x + c))) = l') : J.WP d k pc ls st h Q ↔ J.WP d k n l' st h Q := by subst hl'; rw [J.at hc, J.sx, hl]; exact Iff.rfl
theorem J.r_dupI {x : Int} (hc : J.cd k pc = some (.dup, n, r, s, t)) : J.WP d k pc ls (J.I x :: st) h Q ↔ J.WP d k n ls (J.I x :: J.I x :: st) h Q := J.at hc
theorem J.r_dupR {x : Int} (hc : J.cd k pc = some (.dup, n, r, s, t)) : J.WP d k pc ls (J.R x :: st) h Q ↔ J.WP d k n ls (J.R x :: J.R x :: st) h Q := J.at hc
theorem J.r_dupx1IR {x y : Int} (hc : J.cd k pc = some (.dup_x1, n, r, s, t)) : J.WP d k pc ls (J.I x :: J.R y :: st) h Q ↔ J.WP d k n ls (J.I x :: J.R y :: J.I x :: st) h Q := J.at hc
theorem J.r_dupx1II {x y : Int} (hc : J.cd k pc = some (.dup_x1, n, r, s, t)) : J.WP d k pc ls (J.I x :: J.I y :: st) h Q ↔ J.WP d k n ls (J.I x :: J.I y :: J.I x :: st) h Q := J.at hc
theorem J.r_dupx1RR {x y : Int} (hc : J.cd k pc = some (.dup_x1, n, r, s, t)) : J.WP d k pc ls (J.R x :: J.R y :: st) h Q ↔ J.WP d k n ls (J.R x :: J.R y :: J.R x :: st) h Q := J.at hc
theorem J.r_dup2L {x : Int} (hc : J.cd k pc = some (.dup2, n, r, s, t)) : J.WP d k pc ls (J.L x :: st) h Q ↔ J.WP d k n ls (J.L x :: J.L x :: st) h Q := J.at hc
theorem J.r_dup2IR {x y : Int} (hc : J.cd k pc = some (.dup2, n, r, s, t)) : J.WP d k pc ls (J.I x :: J.R y :: st) h Q ↔ J.WP d k n ls (J.I x :: J.R y :: J.I x :: J.R y :: st) h Q := J.at hc
theorem J.r_popI {x : Int} (hc : J.cd k pc = some (.pop, n, r, s, t)) : J.WP d k pc ls (J.I x :: st) h Q ↔ J.WP d k n ls st h Q := J.at hc
theorem J.r_popR {x : Int} (hc : J.cd k pc = some (.pop, n, r, s, t)) : J.WP d k pc ls (J.R x :: st) h Q ↔ J.WP d k n ls st h Q := J.at hc
theorem J.r_pop2 {x : Int} (hc : J.cd k pc = some (.pop2, n, r, s, t)) : J.WP d k pc ls (J.L x :: st) h Q ↔ J.WP d k n ls st h Q := J.at hc
theorem J.r_iadd {a b : Int} (hc : J.cd k pc = some (.iadd, n, r, s, t)) : J.WP d k pc ls (J.I b :: J.I a :: st) h Q ↔ J.WP d k n ls (J.I (J.w32 (a + b)) :: st) h Q := J.at hc
theorem J.r_isub {a b : Int} (hc : J.cd k pc = some (.isub, n, r, s, t)) : J.WP d k pc ls (J.I b :: J.I a :: st) h Q ↔ J.WP d k n ls (J.I (J.w32 (a - b)) :: st) h Q := J.at hc
theorem J.r_imul {a b : Int} (hc : J.cd k pc = some (.imul, n, r, s, t)) : J.WP d k pc ls (J.I b :: J.I a :: st) h Q ↔ J.WP d k n ls (J.I (J.w32 (a * b)) :: st) h Q := J.at hc
theorem J.r_iand {a b : Int} (hc : J.cd k pc = some (.iand, n, r, s, t)) : J.WP d k pc ls (J.I b :: J.I a :: st) h Q ↔ J.WP d k n ls (J.I (J.and32 a b) :: st) h Q := J.at hc
theorem J.r_ior {a b : Int} (hc : J.cd k pc = some (.ior, n, r, s, t)) : J.WP d k pc ls (J.I b :: J.I a :: st) h Q ↔ J.WP d k n ls (J.I (J.or32 a b) :: st) h Q := J.at hc
theorem J.r_ixor {a b : Int} (hc : J.cd k pc = some (.ixor, n, r, s, t)) : J.WP d k pc ls (J.I b :: J.I a :: st) h Q ↔ J.WP d k n ls (J.I (J.xor32 a b) :: st) h Q := J.at hc
theorem J.r_ishl {a b : Int} (hc : J.cd k pc = some (.ishl, n, r, s, t)) : J.WP d k pc ls (J.I b :: J.I a :: st) h Q ↔ J.WP d k n ls (J.I (J.shl32 a b) :: st) h Q := J.at hc
theorem J.r_ishr {a b : Int} (hc : J.cd k pc = some (.ishr, n, r, s, t)) : J.WP d k pc ls (J.I b :: J.I a :: st) h Q ↔ J.WP d k n ls (J.I (J.shr32 a b) :: st) h Q := J.at hc
theorem J.r_iushr {a b : Int} (hc : J.cd k pc = some (.iushr, n, r, s, t)) : J.WP d k pc ls (J.I b :: J.I a :: st) h Q ↔ J.WP d k n ls (J.I (J.ush32 a b) :: st) h Q := J.at hc
theorem J.r_ladd {a b : Int} (hc : J.cd k pc = some (.ladd, n, r, s, t)) : J.WP d k pc ls (J.L b :: J.L a :: st) h Q ↔ J.WP d k n ls (J.L (J.w64 (a + b)) :: st) h Q := J.at hc
theorem J.r_lsub {a b : Int} (hc : J.cd k pc = some (.lsub, n, r, s, t)) : J.WP d k pc ls (J.L b :: J.L a :: st) h Q ↔ J.WP d k n ls (J.L (J.w64 (a - b)) :: st) h Q := J.at hc
theorem J.r_lmul {a b : Int} (hc : J.cd k pc = some (.lmul, n, r, s, t)) : J.WP d k pc ls (J.L b :: J.L a :: st) h Q ↔ J.WP d k n ls (J.L (J.w64 (a * b)) :: st) h Q := J.at hc
theorem J.r_land {a b : Int} (hc : J.cd k pc = some (.land, n, r, s, t)) : J.WP d k pc ls (J.L b :: J.L a :: st) h Q ↔ J.WP d k n ls (J.L (J.and64 a b) :: st) h Q := J.at hc
theorem J.r_lor {a b : Int} (hc : J.cd k pc = some (.lor, n, r, s, t)) : J.WP d k pc ls (J.L b :: J.L a :: st) h Q ↔ J.WP d k n ls (J.L (J.or64 a b) :: st) h Q := J.at hc
theorem J.r_lxor {a b : Int} (hc : J.cd k pc = some (.lxor, n, r, s, t)) : J.WP d k pc ls (J.L b :: J.L a :: st) h Q ↔ J.WP d k n ls (J.L (J.xor64 a b) :: st) h Q := J.at hc
theorem J.r_lshl {a b : Int} (hc : J.cd k pc = some (.lshl, n, r, s, t)) : J.WP d k pc ls (J.I b :: J.L a :: st) h Q ↔ J.WP d k n ls (J.L (J.shl64 a b) :: st) h Q := J.at hc
theorem J.r_lshr {a b : Int} (hc : J.cd k pc = some (.lshr, n, r, s, t)) : J.WP d k pc ls (J.I b :: J.L a :: st) h Q ↔ J.WP d k n ls (J.L (J.shr64 a b) :: st) h Q := J.at hc
theorem J.r_lushr {a b : Int} (hc : J.cd k pc = some (.lushr, n, r, s, t)) : J.WP d k pc ls (J.I b :: J.L a :: st) h Q ↔ J.WP d k n ls (J.L (J.ush64 a b) :: st) h Q := J.at hc
theorem J.r_ineg {a : Int} (hc : J.cd k pc = some (.ineg, n, r, s, t)) : J.WP d k pc ls (J.I a :: st) h Q ↔ J.WP d k n ls (J.I (J.w32 (-a)) :: st) h Q := J.at hc
theorem J.r_lneg {a : Int} (hc : J.cd k pc = some (.lneg, n, r, s, t)) : J.WP d k pc ls (J.L a :: st) h Q ↔ J.WP d k n ls (J.L (J.w64 (-a)) :: st) h Q := J.at hc
theorem J.r_i2l {a : Int} (hc : J.cd k pc = some (.i2l, n, r, s, t)) : J.WP d k pc ls (J.I a :: st) h Q ↔ J.WP d k n ls (J.L (a) :: st) h Q := J.at hc
theorem J.r_l2i {a : Int} (hc : J.cd k pc = some (.l2i, n, r, s, t)) : J.WP d k pc ls (J.L a :: st) h Q ↔ J.WP d k n ls (J.I (J.w32 a) :: st) h Q := J.at hc
theorem J.r_i2b {a : Int} (hc : J.cd k pc = some (.i2b, n, r, s, t)) : J.WP d k pc ls (J.I a :: st) h Q ↔ J.WP d k n ls (J.I (J.i8 a) :: st) h Q := J.at hc
theorem J.r_i2c {a : Int} (hc : J.cd k pc = some (.i2c, n, r, s, t)) : J.WP d k pc ls (J.I a :: st) h Q ↔ J.WP d k n ls (J.I (a % 65536) :: st) h Q := J.at hc
theorem J.r_idiv {a b : Int} (hc : J.cd k pc = some (.idiv, n, r, s, t)) : J.WP d k pc ls (J.I b :: J.I a :: st) h Q ↔ J.nz b ∧ J.WP d k n ls (J.I (J.w32 (a.tdiv b)) :: st) h Q := (J.at hc).trans J.chkn
theorem J.r_irem {a b : Int} (hc : J.cd k pc = some (.irem, n, r, s, t)) : J.WP d k pc ls (J.I b :: J.I a :: st) h Q ↔ J.nz b ∧ J.WP d k n ls (J.I (a.tmod b) :: st) h Q := (J.at hc).trans J.chkn
theorem J.r_ldiv {a b : Int} (hc : J.cd k pc = some (.ldiv, n, r, s, t)) : J.WP d k pc ls (J.L b :: J.L a :: st) h Q ↔ J.nz b ∧ J.WP d k n ls (J.L (J.w64 (a.tdiv b)) :: st) h Q := (J.at hc).trans J.chkn
theorem J.r_lrem {a b : Int} (hc : J.cd k pc = some (.lrem, n, r, s, t)) : J.WP d k pc ls (J.L b :: J.L a :: st) h Q ↔ J.nz b ∧ J.WP d k n ls (J.L (a.tmod b) :: st) h Q := (J.at hc).trans J.chkn
theorem J.r_lcmp {a b : Int} (hc : J.cd k pc = some (.lcmp, n, r, s, t)) : J.WP d k pc ls (J.L b :: J.L a :: st) h Q ↔ J.WP d k n ls (J.I (if a < b then -1 else if a = b then 0 else 1) :: st) h Q := J.at hc
theorem J.r_goto {f : Int} (hc : J.cd k pc = some (.goto f, n, r, s, t)) : J.WP d k pc ls st h Q ↔ J.WP d k r ls st h Q := J.at hc
theorem J.swap_ite {c A B : Prop} {i1 : Decidable c} : (if (!decide c) = true then A else B) ↔ (if c then B else A) := by
  by_cases x : c <;> simp [x]
theorem J.dec_ite {c A B : Prop} {i1 : Decidable c} : (if decide c = true then A else B) ↔ (if c then A else B) := by
  by_cases x : c <;> simp [x]
theorem J.r_iceq {a b f : Int} (hc : J.cd k pc = some (.if_icmp .eq f, n, r, s, t)) : J.WP d k pc ls (J.I b :: J.I a :: st) h Q ↔ if a = b then J.WP d k r ls st h Q else J.WP d k n ls st h Q := (J.at hc).trans ((J.if_ite _).trans J.dec_ite)
theorem J.r_ifeq {a f : Int} (hc : J.cd k pc = some (.ifCond .eq f, n, r, s, t)) : J.WP d k pc ls (J.I a :: st) h Q ↔ if a = 0 then J.WP d k r ls st h Q else J.WP d k n ls st h Q := (J.at hc).trans ((J.if_ite _).trans J.dec_ite)
theorem J.r_aceq {a b f : Int} (hc : J.cd k pc = some (.if_acmp .eq f, n, r, s, t)) : J.WP d k pc ls (J.R b :: J.R a :: st) h Q ↔ if a = b then J.WP d k r ls st h Q else J.WP d k n ls st h Q := (J.at hc).trans ((J.if_ite _).trans J.dec_ite)
theorem J.r_icne {a b f : Int} (hc : J.cd k pc = some (.if_icmp .ne f, n, r, s, t)) : J.WP d k pc ls (J.I b :: J.I a :: st) h Q ↔ if a = b then J.WP d k n ls st h Q else J.WP d k r ls st h Q := (J.at hc).trans ((J.if_ite _).trans J.swap_ite)
theorem J.r_ifne {a f : Int} (hc : J.cd k pc = some (.ifCond .ne f, n, r, s, t)) : J.WP d k pc ls (J.I a :: st) h Q ↔ if a = 0 then J.WP d k n ls st h Q else J.WP d k r ls st h Q := (J.at hc).trans ((J.if_ite _).trans J.swap_ite)
theorem J.r_acne {a b f : Int} (hc : J.cd k pc = some (.if_acmp .ne f, n, r, s, t)) : J.WP d k pc ls (J.R b :: J.R a :: st) h Q ↔ if a = b then J.WP d k n ls st h Q else J.WP d k r ls st h Q := (J.at hc).trans ((J.if_ite _).trans J.swap_ite)
theorem J.r_iclt {a b f : Int} (hc : J.cd k pc = some (.if_icmp .lt f, n, r, s, t)) : J.WP d k pc ls (J.I b :: J.I a :: st) h Q ↔ if a < b then J.WP d k r ls st h Q else J.WP d k n ls st h Q := (J.at hc).trans ((J.if_ite _).trans J.dec_ite)
theorem J.r_iflt {a f : Int} (hc : J.cd k pc = some (.ifCond .lt f, n, r, s, t)) : J.WP d k pc ls (J.I a :: st) h Q ↔ if a < 0 then J.WP d k r ls st h Q else J.WP d k n ls st h Q := (J.at hc).trans ((J.if_ite _).trans J.dec_ite)
theorem J.r_icge {a b f : Int} (hc : J.cd k pc = some (.if_icmp .ge f, n, r, s, t)) : J.WP d k pc ls (J.I b :: J.I a :: st) h Q ↔ if a < b then J.WP d k n ls st h Q else J.WP d k r ls st h Q := (J.at hc).trans ((J.if_ite _).trans J.swap_ite)
theorem J.r_ifge {a f : Int} (hc : J.cd k pc = some (.ifCond .ge f, n, r, s, t)) : J.WP d k pc ls (J.I a :: st) h Q ↔ if a < 0 then J.WP d k n ls st h Q else J.WP d k r ls st h Q := (J.at hc).trans ((J.if_ite _).trans J.swap_ite)
theorem J.r_icgt {a b f : Int} (hc : J.cd k pc = some (.if_icmp .gt f, n, r, s, t)) : J.WP d k pc ls (J.I b :: J.I a :: st) h Q ↔ if a ≤ b then J.WP d k n ls st h Q else J.WP d k r ls st h Q := (J.at hc).trans ((J.if_ite _).trans J.swap_ite)
theorem J.r_ifgt {a f : Int} (hc : J.cd k pc = some (.ifCond .gt f, n, r, s, t)) : J.WP d k pc ls (J.I a :: st) h Q ↔ if a ≤ 0 then J.WP d k n ls st h Q else J.WP d k r ls st h Q := (J.at hc).trans ((J.if_ite _).trans J.swap_ite)
theorem J.r_icle {a b f : Int} (hc : J.cd k pc = some (.if_icmp .le f, n, r, s, t)) : J.WP d k pc ls (J.I b :: J.I a :: st) h Q ↔ if a ≤ b then J.WP d k r ls st h Q else J.WP d k n ls st h Q := (J.at hc).trans ((J.if_ite _).trans J.dec_ite)
theorem J.r_ifle {a f : Int} (hc : J.cd k pc = some (.ifCond .le f, n, r, s, t)) : J.WP d k pc ls (J.I a :: st) h Q ↔ if a ≤ 0 then J.WP d k r ls st h Q else J.WP d k n ls st h Q := (J.at hc).trans ((J.if_ite _).trans J.dec_ite)
theorem J.r_ifnull {a f : Int} (hc : J.cd k pc = some (.ifnull f, n, r, s, t)) : J.WP d k pc ls (J.R a :: st) h Q ↔ if a = 0 then J.WP d k r ls st h Q else J.WP d k n ls st h Q := (J.at hc).trans (J.if_ite _)
theorem J.r_ifnonnull {a f : Int} (hc : J.cd k pc = some (.ifnonnull f, n, r, s, t)) : J.WP d k pc ls (J.R a :: st) h Q ↔ if a = 0 then J.WP d k n ls st h Q else J.WP d k r ls st h Q := (J.at hc).trans (J.if_ite _)
theorem J.r_tsw {x dd lo hi : Int} {offs : Array Int} (hc : J.cd k pc = some (.tableswitch dd lo hi offs, n, r, s, t)) : J.WP d k pc ls (J.I x :: st) h Q ↔ J.WP d k (J.tsw r dd lo hi offs x) ls st h Q := J.at hc
theorem J.r_lsw {x dd : Int} {ps : Array (Int × Int)} (hc : J.cd k pc = some (.lookupswitch dd ps, n, r, s, t)) : J.WP d k pc ls (J.I x :: st) h Q ↔ J.WP d k (J.lsw r dd ps x) ls st h Q := J.at hc
theorem J.nk {P : J.Pd} {a b : Prop} {r : Nat} {i2 : Decidable b} {i3 : Decidable a} {x y : Option J.Rs} {d k pc n : Nat} {ls : List J.V} {h : J.H} {Q : J.O → J.H → Prop} (hr : r < 554) : J.SR P d k pc n ls h Q (if 554 ≤ r then (if a then x else none) else if b then y else none) ↔ b ∧ J.SR P d k pc n ls h Q y := by
  rw [if_neg (by omega)]; exact J.chk
theorem J.r_getk {a : Int} {x : Nat} (hc : J.cd k pc = some (.getfield x, n, r, s, t)) (hr : 554 ≤ r := by decide) : J.WP d k pc ls (J.R a :: st) h Q ↔ J.isK h a = true ∧ J.WP d k n ls (J.ty t (J.kf h a r) :: st) h Q := by
  rw [J.at hc]; show J.SR _ _ _ _ _ _ _ _ (if 554 ≤ r then (if J.isK h a = true then _ else none) else _) ↔ _; rw [if_pos hr]; exact J.chk
theorem J.r_kord {x : Nat} {a : Int} (hc : J.cd k pc = some (.invokevirtual x, n, 9003, s, t)) (hw : st.length ≤ 7 := by exact Nat.le_of_ble_eq_true rfl) : J.WP d k pc ls (J.R a :: st) h Q ↔ J.isK h a = true ∧ 0 < d ∧ J.WP (d - 1) 451 0 [J.R a] [] h (J.af J.WP d k pc n ls st Q) := by
  rw [J.at hc]; show J.SR _ _ _ _ _ _ _ _ (if J.isK h a = true ∧ st.length ≤ 7 then _ else none) ↔ _; rw [J.chk]; exact ⟨fun q => ⟨q.1.1, q.2⟩, fun q => ⟨⟨q.1, hw⟩, q.2⟩⟩
theorem J.r_getI {a : Int} {x : Nat} (hc : J.cd k pc = some (.getfield x, n, r, s, 0)) (hr : r < 554 := by decide) : J.WP d k pc ls (J.R a :: st) h Q ↔ J.sb (J.cl h a) s = true ∧ J.WP d k n ls (J.I (J.gv h a r) :: st) h Q := (J.at hc).trans (J.nk hr)
theorem J.r_getsI {x : Nat} (hc : J.cd k pc = some (.getstatic x, n, r, s, 0)) : J.WP d k pc ls st h Q ↔ J.WP d k n ls (J.I (J.gv h (-1) r) :: st) h Q := J.at hc
theorem J.r_getZ {a : Int} {x : Nat} (hc : J.cd k pc = some (.getfield x, n, r, s, 3)) (hr : r < 554 := by decide) : J.WP d k pc ls (J.R a :: st) h Q ↔ J.sb (J.cl h a) s = true ∧ J.WP d k n ls (J.I (J.gv h a r) :: st) h Q := (J.at hc).trans (J.nk hr)
theorem J.r_getsZ {x : Nat} (hc : J.cd k pc = some (.getstatic x, n, r, s, 3)) : J.WP d k pc ls st h Q ↔ J.WP d k n ls (J.I (J.gv h (-1) r) :: st) h Q := J.at hc
theorem J.r_getB {a : Int} {x : Nat} (hc : J.cd k pc = some (.getfield x, n, r, s, 4)) (hr : r < 554 := by decide) : J.WP d k pc ls (J.R a :: st) h Q ↔ J.sb (J.cl h a) s = true ∧ J.WP d k n ls (J.I (J.gv h a r) :: st) h Q := (J.at hc).trans (J.nk hr)
theorem J.r_getsB {x : Nat} (hc : J.cd k pc = some (.getstatic x, n, r, s, 4)) : J.WP d k pc ls st h Q ↔ J.WP d k n ls (J.I (J.gv h (-1) r) :: st) h Q := J.at hc
theorem J.r_getL {a : Int} {x : Nat} (hc : J.cd k pc = some (.getfield x, n, r, s, 1)) (hr : r < 554 := by decide) : J.WP d k pc ls (J.R a :: st) h Q ↔ J.sb (J.cl h a) s = true ∧ J.WP d k n ls (J.L (J.gv h a r) :: st) h Q := (J.at hc).trans (J.nk hr)
theorem J.r_getsL {x : Nat} (hc : J.cd k pc = some (.getstatic x, n, r, s, 1)) : J.WP d k pc ls st h Q ↔ J.WP d k n ls (J.L (J.gv h (-1) r) :: st) h Q := J.at hc
theorem J.r_getR {a : Int} {x : Nat} (hc : J.cd k pc = some (.getfield x, n, r, s, 2)) (hr : r < 554 := by decide) : J.WP d k pc ls (J.R a :: st) h Q ↔ J.sb (J.cl h a) s = true ∧ J.WP d k n ls (J.R (J.gv h a r) :: st) h Q := (J.at hc).trans (J.nk hr)
theorem J.r_getsR {x : Nat} (hc : J.cd k pc = some (.getstatic x, n, r, s, 2)) : J.WP d k pc ls st h Q ↔ J.WP d k n ls (J.R (J.gv h (-1) r) :: st) h Q := J.at hc
theorem J.r_putI {a y : Int} {x : Nat} (hc : J.cd k pc = some (.putfield x, n, r, s, 0)) : J.WP d k pc ls (J.I y :: J.R a :: st) h Q ↔ (J.sb (J.cl h a) s = true ∧ J.cl h a < 300) ∧ J.WP d k n ls st (J.sv h a r y) Q := (J.at hc).trans (J.chk.trans (and_congr_left fun _ => ⟨fun q => ⟨q.1, q.2.1⟩, fun q => ⟨q.1, q.2, by decide, by decide, rfl⟩⟩))
theorem J.r_putZ {a y : Int} {x : Nat} (hc : J.cd k pc = some (.putfield x, n, r, s, 3)) : J.WP d k pc ls (J.I y :: J.R a :: st) h Q ↔ (J.sb (J.cl h a) s = true ∧ J.cl h a < 300 ∧ J.zo y) ∧ J.WP d k n ls st (J.sv h a r y) Q := (J.at hc).trans (J.chk.trans (and_congr_left fun _ => ⟨fun q => ⟨q.1, q.2.1, by have := q.2.2.2.2; simpa [J.fit] using this⟩, fun q => ⟨q.1, q.2.1, by decide, by decide, by simpa [J.fit] using q.2.2⟩⟩))
theorem J.r_putB {a y : Int} {x : Nat} (hc : J.cd k pc = some (.putfield x, n, r, s, 4)) : J.WP d k pc ls (J.I y :: J.R a :: st) h Q ↔ (J.sb (J.cl h a) s = true ∧ J.cl h a < 300 ∧ J.br y) ∧ J.WP d k n ls st (J.sv h a r y) Q := (J.at hc).trans (J.chk.trans (and_congr_left fun _ => ⟨fun q => ⟨q.1, q.2.1, by have := q.2.2.2.2; simpa [J.fit] using this⟩, fun q => ⟨q.1, q.2.1, by decide, by decide, by simpa [J.fit] using q.2.2⟩⟩))
theorem J.r_putL {a y : Int} {x : Nat} (hc : J.cd k pc = some (.putfield x, n, r, s, 1)) : J.WP d k pc ls (J.L y :: J.R a :: st) h Q ↔ (J.sb (J.cl h a) s = true ∧ J.cl h a < 300) ∧ J.WP d k n ls st (J.sv h a r y) Q := (J.at hc).trans (J.chk.trans (and_congr_left fun _ => ⟨fun q => ⟨q.1, q.2.1⟩, fun q => ⟨q.1, q.2, rfl⟩⟩))
theorem J.r_putR {a y : Int} {x : Nat} (hc : J.cd k pc = some (.putfield x, n, r, s, 2)) : J.WP d k pc ls (J.R y :: J.R a :: st) h Q ↔ (J.sb (J.cl h a) s = true ∧ J.cl h a < 300) ∧ J.WP d k n ls st (J.sv h a r y) Q := (J.at hc).trans (J.chk.trans (and_congr_left fun _ => ⟨fun q => ⟨q.1, q.2.1⟩, fun q => ⟨q.1, q.2, rfl⟩⟩))
theorem J.r_iaload {a j : Int} (hc : J.cd k pc = some (.iaload, n, r, s, t)) : J.WP d k pc ls (J.I j :: J.R a :: st) h Q ↔ (J.isA (J.cl h a) 0 = true ∧ J.rg j (J.ln h a)) ∧ J.WP d k n ls (J.I (J.gv h a j) :: st) h Q := (J.at hc).trans J.chk
theorem J.r_laload {a j : Int} (hc : J.cd k pc = some (.laload, n, r, s, t)) : J.WP d k pc ls (J.I j :: J.R a :: st) h Q ↔ (J.isA (J.cl h a) 1 = true ∧ J.rg j (J.ln h a)) ∧ J.WP d k n ls (J.L (J.gv h a j) :: st) h Q := (J.at hc).trans J.chk
theorem J.r_baload {a j : Int} (hc : J.cd k pc = some (.baload, n, r, s, t)) : J.WP d k pc ls (J.I j :: J.R a :: st) h Q ↔ (J.isA (J.cl h a) 3 = true ∧ J.rg j (J.ln h a)) ∧ J.WP d k n ls (J.I (J.gv h a j) :: st) h Q := (J.at hc).trans J.chk
theorem J.r_aaload {a j : Int} (hc : J.cd k pc = some (.aaload, n, r, s, t)) : J.WP d k pc ls (J.I j :: J.R a :: st) h Q ↔ (J.isA (J.cl h a) 2 = true ∧ J.rg j (J.ln h a)) ∧ J.WP d k n ls (J.R (J.gv h a j) :: st) h Q := (J.at hc).trans J.chk
theorem J.r_iastore {a j y : Int} (hc : J.cd k pc = some (.iastore, n, r, s, t)) : J.WP d k pc ls (J.I y :: J.I j :: J.R a :: st) h Q ↔ (J.cl h a = 201 ∧ J.rg j (J.ln h a)) ∧ J.WP d k n ls st (J.sv h a j y) Q := (J.at hc).trans J.chk
theorem J.r_lastore {a j y : Int} (hc : J.cd k pc = some (.lastore, n, r, s, t)) : J.WP d k pc ls (J.L y :: J.I j :: J.R a :: st) h Q ↔ (J.cl h a = 202 ∧ J.rg j (J.ln h a)) ∧ J.WP d k n ls st (J.sv h a j y) Q := (J.at hc).trans J.chk
theorem J.r_bastore {a j y : Int} (hc : J.cd k pc = some (.bastore, n, r, s, t)) : J.WP d k pc ls (J.I y :: J.I j :: J.R a :: st) h Q ↔ (((J.cl h a = 203 ∧ J.zo y) ∨ (J.cl h a = 204 ∧ J.br y)) ∧ J.rg j (J.ln h a)) ∧ J.WP d k n ls st (J.sv h a j y) Q := (J.at hc).trans J.chk
theorem J.r_aastore {a j y : Int} (hc : J.cd k pc = some (.aastore, n, r, s, t)) : J.WP d k pc ls (J.R y :: J.I j :: J.R a :: st) h Q ↔ (J.cl h a < 300 ∧ J.isA (J.cl h a) 2 = true ∧ J.rg j (J.ln h a) ∧ J.aok h a y) ∧ J.WP d k n ls st (J.sv h a j y) Q := (J.at hc).trans (J.chk.trans (and_congr_left fun _ => ⟨fun q => ⟨q.1, q.2.1, ⟨q.2.2.1, q.2.2.2.1⟩, q.2.2.2.2⟩, fun q => ⟨q.1, q.2.1, q.2.2.1.1, q.2.2.1.2, q.2.2.2⟩⟩))
theorem J.r_alen {a : Int} (hc : J.cd k pc = some (.arraylength, n, r, s, t)) : J.WP d k pc ls (J.R a :: st) h Q ↔ J.ia (J.cl h a) = true ∧ J.WP d k n ls (J.I (J.ln h a) :: st) h Q := (J.at hc).trans J.chk
theorem J.r_new {x : Nat} (hc : J.cd k pc = some (.new x, n, r, s, t)) : J.WP d k pc ls st h Q ↔ J.us h + s ≤ J.UM ∧ J.WP d k n ls (J.R (J.nx h) :: st) (J.nw h r 0 s) Q := (J.at hc).trans J.chk
theorem J.r_newarray {y : ArrayType} {z : Int} (hc : J.cd k pc = some (.newarray y, n, r, s, t)) : J.WP d k pc ls (J.I z :: st) h Q ↔ (0 ≤ z ∧ J.us h + 7 + z ≤ J.UM) ∧ J.WP d k n ls (J.R (J.nx h) :: st) (J.nw h (J.atc y) z (7 + z)) Q := (J.at hc).trans J.chk
theorem J.r_anewarray {x : Nat} {z : Int} (hc : J.cd k pc = some (.anewarray x, n, r, s, t)) : J.WP d k pc ls (J.I z :: st) h Q ↔ (0 ≤ z ∧ J.us h + 7 + z ≤ J.UM) ∧ J.WP d k n ls (J.R (J.nx h) :: st) (J.nw h t.toNat z (7 + z)) Q := (J.at hc).trans J.chk
theorem J.r_cast {x : Nat} {a : Int} (hc : J.cd k pc = some (.checkcast x, n, r, s, t)) : J.WP d k pc ls (J.R a :: st) h Q ↔ (J.no a ∨ J.sb (J.cl h a) r = true) ∧ J.WP d k n ls (J.R a :: st) h Q := (J.at hc).trans J.chk
theorem J.r_inst {x : Nat} {a : Int} (hc : J.cd k pc = some (.instanceof x, n, r, s, t)) : J.WP d k pc ls (J.R a :: st) h Q ↔ J.iok h a r ∧ J.WP d k n ls (J.I (if a ≠ 0 ∧ J.sb (J.cl h a) r = true then 1 else 0) :: st) h Q := (J.at hc).trans J.chk
theorem J.r_ret (hc : J.cd k pc = some (.return_, n, r, s, t)) (hh : J.hd k pc = none) : J.WP d k pc ls [] h Q ↔ Q (Sum.inl none) h := (J.at hc).trans ⟨fun q => q.2, fun q => ⟨hh, q⟩⟩
theorem J.r_lret {x : Int} (hc : J.cd k pc = some (.lreturn, n, r, s, t)) (hh : J.hd k pc = none) : J.WP d k pc ls [J.L x] h Q ↔ Q (Sum.inl (some (J.L x))) h := (J.at hc).trans ⟨fun q => q.2, fun q => ⟨hh, q⟩⟩
theorem J.r_aret {x : Int} (hc : J.cd k pc = some (.areturn, n, r, s, t)) (hh : J.hd k pc = none) : J.WP d k pc ls [J.R x] h Q ↔ Q (Sum.inl (some (J.R x))) h := (J.at hc).trans ⟨fun q => q.2, fun q => ⟨hh, q⟩⟩
theorem J.r_iret {x : Int} (hc : J.cd k pc = some (.ireturn, n, r, s, 0)) (hh : J.hd k pc = none) : J.WP d k pc ls [J.I x] h Q ↔ Q (Sum.inl (some (J.I x))) h := (J.at hc).trans ⟨fun q => q.2, fun q => ⟨hh, q⟩⟩
theorem J.r_iretZ {x : Int} (hc : J.cd k pc = some (.ireturn, n, r, s, 3)) (hh : J.hd k pc = none) : J.WP d k pc ls [J.I x] h Q ↔ J.zo x ∧ Q (Sum.inl (some (J.I x))) h := (J.at hc).trans (J.chk.trans ⟨fun q => ⟨by have := q.1; simpa [J.fit] using this, q.2.2⟩, fun q => ⟨by simpa [J.fit] using q.1, hh, q.2⟩⟩)
theorem J.r_iretB {x : Int} (hc : J.cd k pc = some (.ireturn, n, r, s, 4)) (hh : J.hd k pc = none) : J.WP d k pc ls [J.I x] h Q ↔ J.br x ∧ Q (Sum.inl (some (J.I x))) h := (J.at hc).trans (J.chk.trans ⟨fun q => ⟨by have := q.1; simpa [J.fit] using this, q.2.2⟩, fun q => ⟨by simpa [J.fit] using q.1, hh, q.2⟩⟩)
theorem J.r_iretC {x : Int} (hc : J.cd k pc = some (.ireturn, n, r, s, 5)) (hh : J.hd k pc = none) : J.WP d k pc ls [J.I x] h Q ↔ J.cr x ∧ Q (Sum.inl (some (J.I x))) h := (J.at hc).trans (J.chk.trans ⟨fun q => ⟨by have := q.1; simpa [J.fit] using this, q.2.2⟩, fun q => ⟨by simpa [J.fit] using q.1, hh, q.2⟩⟩)
theorem J.r_throw {x : Int} (hc : J.cd k pc = some (.athrow, n, r, s, t)) (hh : J.hd k pc = none) : J.WP d k pc ls [J.R x] h Q ↔ J.cl h x = 21 ∧ Q (Sum.inr x) h := (J.at hc).trans (J.chk.trans ⟨fun q => ⟨q.1, q.2.2⟩, fun q => ⟨q.1, hh, q.2⟩⟩)
theorem J.chk7 {P : J.Pd} {c : Prop} {st : List J.V} {inst : Decidable (st.length ≤ 7 ∧ c)} {x : Option J.Rs} {d k pc n : Nat} {ls : List J.V} {h : J.H} {Q : J.O → J.H → Prop} (hw : st.length ≤ 7) : J.SR P d k pc n ls h Q (if st.length ≤ 7 ∧ c then x else none) ↔ c ∧ J.SR P d k pc n ls h Q x := J.chk.trans ⟨fun q => ⟨q.1.2, q.2⟩, fun q => ⟨⟨hw, q.1⟩, q.2⟩⟩
theorem J.vld_iff {h : J.H} {a q m : Int} : J.vld h a q m = true ↔ ∀ i : Int, q ≤ i → i < q + m → J.gv h a i = 0 ∨ J.okK (J.cl h (J.gv h a i)) = true := by
  unfold J.vld
  rw [List.all_eq_true]
  constructor
  · intro H i h1 h2
    have := H (i - q).toNat (List.mem_range.mpr (by omega))
    have e : q + ((i - q).toNat : Int) = i := by omega
    rw [e] at this
    simpa using this
  · intro H i hi
    have := List.mem_range.mp hi
    have := H (q + i) (by omega) (by omega)
    simpa using this
theorem J.r_acopy {x : Nat} {m j b q a : Int} (hc : J.cd k pc = some (.invokestatic x, n, 2000, s, t)) (hw : st.length ≤ 7 := by exact Nat.le_of_ble_eq_true rfl) : J.WP d k pc ls (J.I m :: J.I j :: J.R b :: J.I q :: J.R a :: st) h Q ↔ (0 ≤ m ∧ 0 ≤ q ∧ 0 ≤ j ∧ q + m ≤ J.ln h a ∧ j + m ≤ J.ln h b ∧ J.cl h b < 300 ∧ ((J.isA (J.cl h a) 3 = true ∧ J.cl h b = 204 ∧ J.cl h a ≠ 203) ∨ (J.isA (J.cl h a) 2 = true ∧ J.cl h b = 214 ∧ J.vld h a q m = true))) ∧ J.WP d k n ls st (J.cpy h a q b j m) Q := (J.at hc).trans (J.chk7 hw)
theorem J.r_getc {x : Nat} {a : Int} (hc : J.cd k pc = some (.invokevirtual x, n, 9001, s, t)) (hw : st.length ≤ 7 := by exact Nat.le_of_ble_eq_true rfl) : J.WP d k pc ls (J.R a :: st) h Q ↔ (J.cl h a = 214 ∨ J.cl h a = 311) ∧ J.WP d k n ls (J.R (J.gv h (-1) 900) :: st) h Q := (J.at hc).trans (J.chk7 hw)
theorem J.r_clone {x : Nat} {a : Int} (hc : J.cd k pc = some (.invokevirtual x, n, 9002, s, t)) (hw : st.length ≤ 7 := by exact Nat.le_of_ble_eq_true rfl) : J.WP d k pc ls (J.R a :: st) h Q ↔ (J.cl h a = 312 ∧ J.us h + 7 + J.ln h a ≤ J.UM) ∧ J.WP d k n ls (J.R (J.nx h) :: st) (J.cpy (J.nw h 215 (J.ln h a) (7 + J.ln h a)) a 0 (J.nx h) 0 (J.ln h a)) Q := (J.at hc).trans (J.chk7 hw)
theorem J.r_cloneB {x : Nat} {a : Int} (hc : J.cd k pc = some (.invokevirtual x, n, 9004, s, t)) (hw : st.length ≤ 7 := by exact Nat.le_of_ble_eq_true rfl) : J.WP d k pc ls (J.R a :: st) h Q ↔ (J.cl h a = 204 ∧ J.us h + 7 + J.ln h a ≤ J.UM) ∧ J.WP d k n ls (J.R (J.nx h) :: st) (J.cpy (J.nw h 204 (J.ln h a) (7 + J.ln h a)) a 0 (J.nx h) 0 (J.ln h a)) Q := (J.at hc).trans (J.chk7 hw)
theorem J.sel_one {v c k m : Nat} (hs : (J.selT.getD (v / 50) []).getD (v % 50) [] = [(c, k, m)]) : J.sel c v = some (k, m) ∧ ∀ c2, c2 ≠ c → J.sel c2 v = none := by
  unfold J.sel
  rw [hs]
  refine ⟨by simp, fun c2 h => ?_⟩
  have : (c2 == c) = false := by simpa using h
  simp [List.lookup, this]
theorem J.tsw_d {pc : Nat} {d lo hi : Int} {offs : Array Int} {x : Int} (h : x < lo ∨ hi < x) : J.tsw pc d lo hi offs x = ((pc : Int) + d).toNat := by unfold J.tsw; rw [if_pos h]
theorem J.lk_none {x : Int} : ∀ {l : List (Int × Int)}, (∀ q ∈ l, x ≠ q.1) → l.lookup x = none
  | [], _ => rfl
  | (a, b) :: l, h => by
    have h1 : (x == a) = false := by simpa using h (a, b) List.mem_cons_self
    simp only [List.lookup, h1]
    exact J.lk_none fun q hq => h q (List.mem_cons_of_mem _ hq)
theorem J.lsw_d {pc : Nat} {d : Int} {ps : Array (Int × Int)} {x : Int} (h : ∀ q ∈ ps.toList, x ≠ q.1) : J.lsw pc d ps x = ((pc : Int) + d).toNat := by unfold J.lsw; rw [J.lk_none h]; rfl
/-- calls -/
theorem J.r_stat {x : Nat} {l0 rest : List J.V} (hc : J.cd k pc = some (.invokestatic x, n, r, s, t)) (hr : r < 2000) (hs : s ≤ st.length) (hl : J.ent s t st = l0) (hd : st.drop s = rest) (hw : rest.length ≤ 7) (hm : l0.length = t.toNat := by rfl) : J.WP d k pc ls st h Q ↔ 0 < d ∧ J.WP (d - 1) r 0 l0 [] h (J.af J.WP d k pc n ls rest Q) := by
  subst hl; subst hd; rw [J.at hc]; show J.SR _ _ _ _ _ _ _ _ (if r < 2000 then (if s ≤ st.length ∧ (st.drop s).length ≤ 7 ∧ (J.ent s t st).length = t.toNat then _ else none) else _) ↔ _; rw [if_pos hr, if_pos ⟨hs, hw, hm⟩]; exact Iff.rfl
theorem J.r_spec {x : Nat} {a : Int} {l0 rest : List J.V} (hc : J.cd k pc = some (.invokespecial x, n, r, s, t)) (hr : r < 2000) (hs : 0 < s ∧ s ≤ st.length) (ha : st.drop (s - 1) = J.R a :: rest) (hl : J.ent s t st = l0) (hw : rest.length ≤ 7) (hm : l0.length = t.toNat := by rfl) : J.WP d k pc ls st h Q ↔ J.ik (J.cl h a) = true ∧ 0 < d ∧ J.WP (d - 1) r 0 l0 [] h (J.af J.WP d k pc n ls rest Q) := by
  have e1 : st.drop s = rest := by
    have e0 : st.drop s = (st.drop (s - 1)).drop 1 := by rw [List.drop_drop]; congr 1; omega
    rw [e0, ha]; rfl
  subst hl; rw [J.at hc]; show J.SR _ _ _ _ _ _ _ _ (if r < 2000 then _ else _) ↔ _; rw [if_pos hr, ha]; show J.SR _ _ _ _ _ _ _ _ (if 0 < s ∧ s ≤ st.length ∧ J.ik (J.cl h a) = true ∧ (st.drop s).length ≤ 7 ∧ (J.ent s t st).length = t.toNat then _ else none) ↔ _; rw [J.chk, e1]; exact ⟨fun q => ⟨q.1.2.2.1, q.2⟩, fun q => ⟨⟨hs.1, hs.2, q.1, hw, hm⟩, q.2⟩⟩
theorem J.r_exc {x : Nat} {a : Int} (hc : J.cd k pc = some (.invokespecial x, n, 2004, s, t)) (hw : st.length ≤ 7 := by exact Nat.le_of_ble_eq_true rfl) : J.WP d k pc ls (J.R a :: st) h Q ↔ (J.cl h a = 21 ∧ J.gv h a 168 = 0) ∧ J.WP d k n ls st (J.ex h a) Q := (J.at hc).trans (J.chk7 hw)
theorem J.r_obj {x : Nat} {a : Int} (hc : J.cd k pc = some (.invokespecial x, n, 2005, s, t)) (hw : st.length ≤ 7 := by exact Nat.le_of_ble_eq_true rfl) : J.WP d k pc ls (J.R a :: st) h Q ↔ J.ik (J.cl h a) = true ∧ J.WP d k n ls st h Q := (J.at hc).trans (J.chk7 hw)
theorem J.r_virt {x k2 m : Nat} {a : Int} {l0 rest : List J.V} (hc : J.cd k pc = some (.invokevirtual x, n, r, s, t)) (ha : st.drop s = J.R a :: rest) (c : Nat) (hq : J.cl h a = c) (hs : J.sel c r = some (k2, m)) (hk : k2 < 2000) (hl : J.ent (s + 1) m st = l0) (hw : rest.length ≤ 7) (hm : l0.length = m := by rfl) (hr : r < 9000 := by decide) : J.WP d k pc ls st h Q ↔ 0 < d ∧ J.WP (d - 1) k2 0 l0 [] h (J.af J.WP d k pc n ls rest Q) := by
  subst hl; subst hq; rw [J.at hc]; show J.SR _ _ _ _ _ _ _ _ (if r = 9001 then _ else if r = 9002 then _ else if r = 9003 then _ else if r = 9004 then _ else _) ↔ _; rw [if_neg (by omega), if_neg (by omega), if_neg (by omega), if_neg (by omega), ha]; dsimp only; rw [hs]; dsimp only; rw [if_pos ⟨hk, hw, hm⟩]; exact Iff.rfl
theorem J.r_virt1 {x k2 m : Nat} {a : Int} {l0 rest : List J.V} (c : Nat) (hc : J.cd k pc = some (.invokevirtual x, n, r, s, t)) (ha : st.drop s = J.R a :: rest) (hs : (J.selT.getD (r / 50) []).getD (r % 50) [] = [(c, k2, m)]) (hk : k2 < 2000) (hl : J.ent (s + 1) m st = l0) (hw : rest.length ≤ 7) (hm : l0.length = m := by rfl) (hr : r < 9000 := by decide) : J.WP d k pc ls st h Q ↔ J.cl h a = c ∧ 0 < d ∧ J.WP (d - 1) k2 0 l0 [] h (J.af J.WP d k pc n ls rest Q) := by
  by_cases hq : J.cl h a = c
  · rw [J.r_virt hc ha c hq (J.sel_one hs).1 hk hl hw hm hr]; exact ⟨fun q => ⟨hq, q⟩, fun q => q.2⟩
  · rw [J.at hc]; show J.SR _ _ _ _ _ _ _ _ (if r = 9001 then _ else if r = 9002 then _ else if r = 9003 then _ else if r = 9004 then _ else _) ↔ _; rw [if_neg (by omega), if_neg (by omega), if_neg (by omega), if_neg (by omega), ha]; dsimp only; rw [(J.sel_one hs).2 _ hq]; exact ⟨fun q => q.elim, fun q => absurd q.1 hq⟩
theorem J.af_v {P : J.Pd} {d k pc n : Nat} {ls st : List J.V} {Q : J.O → J.H → Prop} {h : J.H} : J.af P d k pc n ls st Q (Sum.inl none) h ↔ P d k n ls st h Q := Iff.rfl
theorem J.af_s {P : J.Pd} {d k pc n : Nat} {ls st : List J.V} {Q : J.O → J.H → Prop} {h : J.H} {v : J.V} : J.af P d k pc n ls st Q (Sum.inl (some v)) h ↔ P d k n ls (v :: st) h Q := Iff.rfl
theorem J.af_t {P : J.Pd} {d k pc n : Nat} {ls st : List J.V} {Q : J.O → J.H → Prop} {h : J.H} {e : Int} (hh : J.hd k pc = none) : J.af P d k pc n ls st Q (Sum.inr e) h ↔ J.cl h e = 21 ∧ Q (Sum.inr e) h := by unfold J.af; rw [hh]
end
