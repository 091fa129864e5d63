set_option maxRecDepth 100000
/-! 94 java/lang/String.length()I -/
theorem i94_0 : J.cd 94 0 = some (.aload 0, 1, 0, 0, 0) := by decide +kernel
theorem i94_1 : J.cd 94 1 = some (.getfield 9, 4, 170, 23, 2) := by decide +kernel
theorem i94_4 : J.cd 94 4 = some (.arraylength, 5, 4, 0, 0) := by decide +kernel
theorem i94_5 : J.cd 94 5 = some (.aload 0, 6, 0, 0, 0) := by decide +kernel
theorem i94_6 : J.cd 94 6 = some (.invokevirtual 335, 9, 205, 0, 0) := by decide +kernel
theorem i94_9 : J.cd 94 9 = some (.ishr, 10, 9, 0, 0) := by decide +kernel
theorem i94_10 : J.cd 94 10 = some (.ireturn, 11, 0, 0, 0) := by decide +kernel
theorem b94_0 (d : Nat) (h : J.H) (Q : J.O → J.H → Prop) (x0 : Int) : J.WP d 94 0 [J.R x0] [] h Q ↔ (J.sb (J.cl h x0) 23 = true) ∧ ((J.ia (J.cl h (J.gv h x0 170)) = true) ∧ (J.WP d 94 6 [J.R x0] [J.R x0, J.I (J.ln h (J.gv h x0 170))] h Q)) := by
  refine (J.r_aload i94_0 rfl).trans ?_
  refine (J.r_getR i94_1).trans (and_congr_right fun q0 => ?_)
  refine (J.r_alen i94_4).trans (and_congr_right fun q1 => ?_)
  refine (J.r_aload i94_5 rfl).trans ?_
  exact Iff.rfl
theorem b94_6_c23 (d : Nat) (h : J.H) (Q : J.O → J.H → Prop) (x0 s0 s1 : Int) (hq : J.cl h s1 = 23) : J.WP d 94 6 [J.R x0] [J.R s1, J.I s0] h Q ↔ 0 < d ∧ J.WP (d - 1) 95 0 [J.R s1] [] h (J.af J.WP d 94 6 9 [J.R x0] [J.I s0] Q) := by
  exact J.r_virt (k2 := 95) (m := 1) i94_6 rfl 23 hq (by decide +kernel) (by decide) rfl (Nat.le_of_ble_eq_true rfl)
theorem b94_6_c321 (d : Nat) (h : J.H) (Q : J.O → J.H → Prop) (x0 s0 s1 : Int) (hq : J.cl h s1 = 321) : J.WP d 94 6 [J.R x0] [J.R s1, J.I s0] h Q ↔ 0 < d ∧ J.WP (d - 1) 95 0 [J.R s1] [] h (J.af J.WP d 94 6 9 [J.R x0] [J.I s0] Q) := by
  exact J.r_virt (k2 := 95) (m := 1) i94_6 rfl 321 hq (by decide +kernel) (by decide) rfl (Nat.le_of_ble_eq_true rfl)
theorem b94_9 (d : Nat) (h : J.H) (Q : J.O → J.H → Prop) (x0 s0 s1 : Int) : J.WP d 94 9 [J.R x0] [J.I s1, J.I s0] h Q ↔ Q (Sum.inl (some (J.I (J.shr32 s0 s1)))) h := by
  refine (J.r_ishr i94_9).trans ?_
  exact J.r_iret i94_10 rfl
/-! 95 java/lang/String.coder()B -/
theorem i95_0 : J.cd 95 0 = some (.getstatic 38, 3, 0, 0, 3) := by decide +kernel
theorem i95_3 : J.cd 95 3 = some (.ifCond .eq 10, 6, 13, 0, 0) := by decide +kernel
theorem i95_6 : J.cd 95 6 = some (.aload 0, 7, 0, 0, 0) := by decide +kernel
theorem i95_7 : J.cd 95 7 = some (.getfield 15, 10, 171, 23, 4) := by decide +kernel
theorem i95_10 : J.cd 95 10 = some (.goto 4, 13, 14, 0, 0) := by decide +kernel
theorem i95_13 : J.cd 95 13 = some (.iconst 1, 14, 13, 0, 0) := by decide +kernel
theorem i95_14 : J.cd 95 14 = some (.ireturn, 15, 0, 0, 4) := by decide +kernel
theorem b95_0 (d : Nat) (h : J.H) (Q : J.O → J.H → Prop) (x0 : Int) : J.WP d 95 0 [J.R x0] [] h Q ↔ if (J.gv h (-1) 0) = 0 then (J.WP d 95 14 [J.R x0] [J.I 1] h Q) else ((J.sb (J.cl h x0) 23 = true) ∧ (J.WP d 95 14 [J.R x0] [J.I (J.gv h x0 171)] h Q)) := by
  refine (J.r_getsZ i95_0).trans ?_
  refine (J.r_ifeq i95_3).trans (J.ite2 ?_ ?_)
  · refine (J.r_iconst i95_13).trans ?_
    exact Iff.rfl
  · refine (J.r_aload i95_6 rfl).trans ?_
    refine (J.r_getB i95_7).trans (and_congr_right fun q0 => ?_)
    refine (J.r_goto i95_10).trans ?_
    exact Iff.rfl
theorem b95_14 (d : Nat) (h : J.H) (Q : J.O → J.H → Prop) (x0 s0 : Int) : J.WP d 95 14 [J.R x0] [J.I s0] h Q ↔ (J.br s0) ∧ Q (Sum.inl (some (J.I s0))) h := by
  exact J.r_iretB i95_14 rfl
/-! 142 java/lang/String.equals(Ljava/lang/Object;)Z -/
theorem i142_0 : J.cd 142 0 = some (.aload 0, 1, 0, 0, 0) := by decide +kernel
theorem i142_1 : J.cd 142 1 = some (.aload 1, 2, 0, 0, 0) := by decide +kernel
theorem i142_2 : J.cd 142 2 = some (.if_acmp .ne 5, 5, 7, 0, 0) := by decide +kernel
theorem i142_5 : J.cd 142 5 = some (.iconst 1, 6, 5, 0, 0) := by decide +kernel
theorem i142_6 : J.cd 142 6 = some (.ireturn, 7, 0, 0, 3) := by decide +kernel
theorem i142_7 : J.cd 142 7 = some (.aload 1, 8, 0, 0, 0) := by decide +kernel
theorem i142_8 : J.cd 142 8 = some (.instanceof 10, 11, 23, 11, 213) := by decide +kernel
theorem i142_11 : J.cd 142 11 = some (.ifCond .eq 43, 14, 54, 0, 0) := by decide +kernel
theorem i142_14 : J.cd 142 14 = some (.aload 1, 15, 0, 0, 0) := by decide +kernel
theorem i142_15 : J.cd 142 15 = some (.checkcast 10, 18, 23, 11, 213) := by decide +kernel
theorem i142_18 : J.cd 142 18 = some (.astore 2, 19, 0, 0, 0) := by decide +kernel
theorem i142_19 : J.cd 142 19 = some (.getstatic 38, 22, 0, 0, 3) := by decide +kernel
theorem i142_22 : J.cd 142 22 = some (.ifCond .eq 14, 25, 36, 0, 0) := by decide +kernel
theorem i142_25 : J.cd 142 25 = some (.aload 0, 26, 0, 0, 0) := by decide +kernel
theorem i142_26 : J.cd 142 26 = some (.getfield 15, 29, 171, 23, 4) := by decide +kernel
theorem i142_29 : J.cd 142 29 = some (.aload 2, 30, 0, 0, 0) := by decide +kernel
theorem i142_30 : J.cd 142 30 = some (.getfield 15, 33, 171, 23, 4) := by decide +kernel
theorem i142_33 : J.cd 142 33 = some (.if_icmp .ne 21, 36, 54, 0, 0) := by decide +kernel
theorem i142_36 : J.cd 142 36 = some (.aload 0, 37, 0, 0, 0) := by decide +kernel
theorem i142_37 : J.cd 142 37 = some (.getfield 9, 40, 170, 23, 2) := by decide +kernel
theorem i142_40 : J.cd 142 40 = some (.aload 2, 41, 0, 0, 0) := by decide +kernel
theorem i142_41 : J.cd 142 41 = some (.getfield 9, 44, 170, 23, 2) := by decide +kernel
theorem i142_44 : J.cd 142 44 = some (.invokestatic 541, 47, 143, 2, 3) := by decide +kernel
theorem i142_47 : J.cd 142 47 = some (.ifCond .eq 7, 50, 54, 0, 0) := by decide +kernel
theorem i142_50 : J.cd 142 50 = some (.iconst 1, 51, 50, 0, 0) := by decide +kernel
theorem i142_51 : J.cd 142 51 = some (.goto 4, 54, 55, 0, 0) := by decide +kernel
theorem i142_54 : J.cd 142 54 = some (.iconst 0, 55, 54, 0, 0) := by decide +kernel
theorem i142_55 : J.cd 142 55 = some (.ireturn, 56, 0, 0, 3) := by decide +kernel
theorem b142_0 (d : Nat) (h : J.H) (Q : J.O → J.H → Prop) (x0 x1 : Int) : J.WP d 142 0 [J.R x0, J.R x1, J.U] [] h Q ↔ if x0 = x1 then ((J.zo 1) ∧ Q (Sum.inl (some (J.I 1))) h) else ((J.iok h x1 23) ∧ (if (if x1 ≠ 0 ∧ J.sb (J.cl h x1) 23 = true then (1 : Int) else 0) = 0 then (J.WP d 142 54 [J.R x0, J.R x1, J.U] [] h Q) else ((J.no x1 ∨ J.sb (J.cl h x1) 23 = true) ∧ (if (J.gv h (-1) 0) = 0 then (J.WP d 142 36 [J.R x0, J.R x1, J.R x1] [] h Q) else ((J.sb (J.cl h x0) 23 = true) ∧ ((J.sb (J.cl h x1) 23 = true) ∧ (if (J.gv h x0 171) = (J.gv h x1 171) then (J.WP d 142 36 [J.R x0, J.R x1, J.R x1] [] h Q) else (J.WP d 142 54 [J.R x0, J.R x1, J.R x1] [] h Q)))))))) := by
  refine (J.r_aload i142_0 rfl).trans ?_
  refine (J.r_aload i142_1 rfl).trans ?_
  refine (J.r_acne i142_2).trans (J.ite2 ?_ ?_)
  · refine (J.r_iconst i142_5).trans ?_
    exact J.r_iretZ i142_6 rfl
  · refine (J.r_aload i142_7 rfl).trans ?_
    refine (J.r_inst i142_8).trans (and_congr_right fun q0 => ?_)
    refine (J.r_ifeq i142_11).trans (J.ite2 ?_ ?_)
    · exact Iff.rfl
    · refine (J.r_aload i142_14 rfl).trans ?_
      refine (J.r_cast i142_15).trans (and_congr_right fun q1 => ?_)
      refine (J.r_astore i142_18 (Nat.le_of_ble_eq_true rfl) rfl).trans ?_
      refine (J.r_getsZ i142_19).trans ?_
      refine (J.r_ifeq i142_22).trans (J.ite2 ?_ ?_)
      · exact Iff.rfl
      · refine (J.r_aload i142_25 rfl).trans ?_
        refine (J.r_getB i142_26).trans (and_congr_right fun q2 => ?_)
        refine (J.r_aload i142_29 rfl).trans ?_
        refine (J.r_getB i142_30).trans (and_congr_right fun q3 => ?_)
        refine (J.r_icne i142_33).trans (J.ite2 ?_ ?_)
        · exact Iff.rfl
        · exact Iff.rfl
theorem b142_36 (d : Nat) (h : J.H) (Q : J.O → J.H → Prop) (x0 x1 x2 : Int) : J.WP d 142 36 [J.R x0, J.R x1, J.R x2] [] h Q ↔ (J.sb (J.cl h x0) 23 = true) ∧ ((J.sb (J.cl h x2) 23 = true) ∧ (0 < d ∧ J.WP (d - 1) 143 0 [J.R (J.gv h x0 170), J.R (J.gv h x2 170), J.U] [] h (J.af J.WP d 142 44 47 [J.R x0, J.R x1, J.R x2] [] Q))) := by
  refine (J.r_aload i142_36 rfl).trans ?_
  refine (J.r_getR i142_37).trans (and_congr_right fun q0 => ?_)
  refine (J.r_aload i142_40 rfl).trans ?_
  refine (J.r_getR i142_41).trans (and_congr_right fun q1 => ?_)
  exact J.r_stat i142_44 (by decide) (Nat.le_of_ble_eq_true rfl) rfl rfl (Nat.le_of_ble_eq_true rfl)
theorem b142_47 (d : Nat) (h : J.H) (Q : J.O → J.H → Prop) (x0 x1 x2 s0 : Int) : J.WP d 142 47 [J.R x0, J.R x1, J.R x2] [J.I s0] h Q ↔ if s0 = 0 then (J.WP d 142 54 [J.R x0, J.R x1, J.R x2] [] h Q) else (J.WP d 142 55 [J.R x0, J.R x1, J.R x2] [J.I 1] h Q) := by
  refine (J.r_ifeq i142_47).trans (J.ite2 ?_ ?_)
  · exact Iff.rfl
  · refine (J.r_iconst i142_50).trans ?_
    refine (J.r_goto i142_51).trans ?_
    exact Iff.rfl
theorem b142_54 (d : Nat) (h : J.H) (Q : J.O → J.H → Prop) (x0 x1 : Int) (v2 : J.V) : J.WP d 142 54 [J.R x0, J.R x1, v2] [] h Q ↔ J.WP d 142 55 [J.R x0, J.R x1, v2] [J.I 0] h Q := by
  refine (J.r_iconst i142_54).trans ?_
  exact Iff.rfl
theorem b142_55 (d : Nat) (h : J.H) (Q : J.O → J.H → Prop) (x0 x1 s0 : Int) (v2 : J.V) : J.WP d 142 55 [J.R x0, J.R x1, v2] [J.I s0] h Q ↔ (J.zo s0) ∧ Q (Sum.inl (some (J.I s0))) h := by
  exact J.r_iretZ i142_55 rfl
/-! 143 java/lang/StringLatin1.equals([B[B)Z -/
theorem i143_0 : J.cd 143 0 = some (.aload 0, 1, 0, 0, 0) := by decide +kernel
theorem i143_1 : J.cd 143 1 = some (.arraylength, 2, 1, 0, 0) := by decide +kernel
theorem i143_2 : J.cd 143 2 = some (.aload 1, 3, 0, 0, 0) := by decide +kernel
theorem i143_3 : J.cd 143 3 = some (.arraylength, 4, 3, 0, 0) := by decide +kernel
theorem i143_4 : J.cd 143 4 = some (.if_icmp .ne 30, 7, 34, 0, 0) := by decide +kernel
theorem i143_7 : J.cd 143 7 = some (.iconst 0, 8, 7, 0, 0) := by decide +kernel
theorem i143_8 : J.cd 143 8 = some (.istore 2, 9, 0, 0, 0) := by decide +kernel
theorem i143_9 : J.cd 143 9 = some (.iload 2, 10, 0, 0, 0) := by decide +kernel
theorem i143_10 : J.cd 143 10 = some (.aload 0, 11, 0, 0, 0) := by decide +kernel
theorem i143_11 : J.cd 143 11 = some (.arraylength, 12, 11, 0, 0) := by decide +kernel
theorem i143_12 : J.cd 143 12 = some (.if_icmp .ge 20, 15, 32, 0, 0) := by decide +kernel
theorem i143_15 : J.cd 143 15 = some (.aload 0, 16, 0, 0, 0) := by decide +kernel
theorem i143_16 : J.cd 143 16 = some (.iload 2, 17, 0, 0, 0) := by decide +kernel
theorem i143_17 : J.cd 143 17 = some (.baload, 18, 17, 0, 0) := by decide +kernel
theorem i143_18 : J.cd 143 18 = some (.aload 1, 19, 0, 0, 0) := by decide +kernel
theorem i143_19 : J.cd 143 19 = some (.iload 2, 20, 0, 0, 0) := by decide +kernel
theorem i143_20 : J.cd 143 20 = some (.baload, 21, 20, 0, 0) := by decide +kernel
theorem i143_21 : J.cd 143 21 = some (.if_icmp .eq 5, 24, 26, 0, 0) := by decide +kernel
theorem i143_24 : J.cd 143 24 = some (.iconst 0, 25, 24, 0, 0) := by decide +kernel
theorem i143_25 : J.cd 143 25 = some (.ireturn, 26, 0, 0, 3) := by decide +kernel
theorem i143_26 : J.cd 143 26 = some (.iinc 2 1, 29, 26, 0, 0) := by decide +kernel
theorem i143_29 : J.cd 143 29 = some (.goto (-20), 32, 9, 0, 0) := by decide +kernel
theorem i143_32 : J.cd 143 32 = some (.iconst 1, 33, 32, 0, 0) := by decide +kernel
theorem i143_33 : J.cd 143 33 = some (.ireturn, 34, 0, 0, 3) := by decide +kernel
theorem i143_34 : J.cd 143 34 = some (.iconst 0, 35, 34, 0, 0) := by decide +kernel
theorem i143_35 : J.cd 143 35 = some (.ireturn, 36, 0, 0, 3) := by decide +kernel
theorem b143_0 (d : Nat) (h : J.H) (Q : J.O → J.H → Prop) (x0 x1 : Int) : J.WP d 143 0 [J.R x0, J.R x1, J.U] [] h Q ↔ (J.ia (J.cl h x0) = true) ∧ ((J.ia (J.cl h x1) = true) ∧ (if (J.ln h x0) = (J.ln h x1) then (J.WP d 143 9 [J.R x0, J.R x1, J.I 0] [] h Q) else ((J.zo 0) ∧ Q (Sum.inl (some (J.I 0))) h))) := by
  refine (J.r_aload i143_0 rfl).trans ?_
  refine (J.r_alen i143_1).trans (and_congr_right fun q0 => ?_)
  refine (J.r_aload i143_2 rfl).trans ?_
  refine (J.r_alen i143_3).trans (and_congr_right fun q1 => ?_)
  refine (J.r_icne i143_4).trans (J.ite2 ?_ ?_)
  · refine (J.r_iconst i143_7).trans ?_
    refine (J.r_istore i143_8 (Nat.le_of_ble_eq_true rfl) rfl).trans ?_
    exact Iff.rfl
  · refine (J.r_iconst i143_34).trans ?_
    exact J.r_iretZ i143_35 rfl
theorem b143_9 (d : Nat) (h : J.H) (Q : J.O → J.H → Prop) (x0 x1 x2 : Int) : J.WP d 143 9 [J.R x0, J.R x1, J.I x2] [] h Q ↔ (J.ia (J.cl h x0) = true) ∧ (if x2 < (J.ln h x0) then ((J.isA (J.cl h x0) 3 = true ∧ J.rg x2 (J.ln h x0)) ∧ ((J.isA (J.cl h x1) 3 = true ∧ J.rg x2 (J.ln h x1)) ∧ (if (J.gv h x0 x2) = (J.gv h x1 x2) then (J.WP d 143 9 [J.R x0, J.R x1, J.I (J.w32 (x2 + 1))] [] h Q) else ((J.zo 0) ∧ Q (Sum.inl (some (J.I 0))) h)))) else ((J.zo 1) ∧ Q (Sum.inl (some (J.I 1))) h)) := by
  refine (J.r_iload i143_9 rfl).trans ?_
  refine (J.r_aload i143_10 rfl).trans ?_
  refine (J.r_alen i143_11).trans (and_congr_right fun q0 => ?_)
  refine (J.r_icge i143_12).trans (J.ite2 ?_ ?_)
  · refine (J.r_aload i143_15 rfl).trans ?_
    refine (J.r_iload i143_16 rfl).trans ?_
    refine (J.r_baload i143_17).trans (and_congr_right fun q1 => ?_)
    refine (J.r_aload i143_18 rfl).trans ?_
    refine (J.r_iload i143_19 rfl).trans ?_
    refine (J.r_baload i143_20).trans (and_congr_right fun q2 => ?_)
    refine (J.r_iceq i143_21).trans (J.ite2 ?_ ?_)
    · refine (J.r_iinc i143_26 rfl rfl).trans ?_
      refine (J.r_goto i143_29).trans ?_
      exact Iff.rfl
    · refine (J.r_iconst i143_24).trans ?_
      exact J.r_iretZ i143_25 rfl
  · refine (J.r_iconst i143_32).trans ?_
    exact J.r_iretZ i143_33 rfl
/-! 195 java/lang/String.charAt(I)C -/
theorem i195_0 : J.cd 195 0 = some (.aload 0, 1, 0, 0, 0) := by decide +kernel
theorem i195_1 : J.cd 195 1 = some (.invokevirtual 492, 4, 209, 0, 0) := by decide +kernel
theorem i195_4 : J.cd 195 4 = some (.ifCond .eq 12, 7, 16, 0, 0) := by decide +kernel
theorem i195_7 : J.cd 195 7 = some (.aload 0, 8, 0, 0, 0) := by decide +kernel
theorem i195_8 : J.cd 195 8 = some (.getfield 9, 11, 170, 23, 2) := by decide +kernel
theorem i195_11 : J.cd 195 11 = some (.iload 1, 12, 0, 0, 0) := by decide +kernel
theorem i195_12 : J.cd 195 12 = some (.invokestatic 495, 15, 197, 2, 2) := by decide +kernel
theorem i195_15 : J.cd 195 15 = some (.ireturn, 16, 0, 0, 5) := by decide +kernel
theorem i195_16 : J.cd 195 16 = some (.aload 0, 17, 0, 0, 0) := by decide +kernel
theorem i195_17 : J.cd 195 17 = some (.getfield 9, 20, 170, 23, 2) := by decide +kernel
theorem i195_20 : J.cd 195 20 = some (.iload 1, 21, 0, 0, 0) := by decide +kernel
theorem i195_21 : J.cd 195 21 = some (.invokestatic 498, 24, 198, 2, 2) := by decide +kernel
theorem i195_24 : J.cd 195 24 = some (.ireturn, 25, 0, 0, 5) := by decide +kernel
theorem b195_0 (d : Nat) (h : J.H) (Q : J.O → J.H → Prop) (x0 x1 : Int) : J.WP d 195 0 [J.R x0, J.I x1] [] h Q ↔ J.WP d 195 1 [J.R x0, J.I x1] [J.R x0] h Q := by
  refine (J.r_aload i195_0 rfl).trans ?_
  exact Iff.rfl
theorem b195_1_c23 (d : Nat) (h : J.H) (Q : J.O → J.H → Prop) (x0 x1 s0 : Int) (hq : J.cl h s0 = 23) : J.WP d 195 1 [J.R x0, J.I x1] [J.R s0] h Q ↔ 0 < d ∧ J.WP (d - 1) 196 0 [J.R s0] [] h (J.af J.WP d 195 1 4 [J.R x0, J.I x1] [] Q) := by
  exact J.r_virt (k2 := 196) (m := 1) i195_1 rfl 23 hq (by decide +kernel) (by decide) rfl (Nat.le_of_ble_eq_true rfl)
theorem b195_1_c321 (d : Nat) (h : J.H) (Q : J.O → J.H → Prop) (x0 x1 s0 : Int) (hq : J.cl h s0 = 321) : J.WP d 195 1 [J.R x0, J.I x1] [J.R s0] h Q ↔ 0 < d ∧ J.WP (d - 1) 196 0 [J.R s0] [] h (J.af J.WP d 195 1 4 [J.R x0, J.I x1] [] Q) := by
  exact J.r_virt (k2 := 196) (m := 1) i195_1 rfl 321 hq (by decide +kernel) (by decide) rfl (Nat.le_of_ble_eq_true rfl)
theorem b195_4 (d : Nat) (h : J.H) (Q : J.O → J.H → Prop) (x0 x1 s0 : Int) : J.WP d 195 4 [J.R x0, J.I x1] [J.I s0] h Q ↔ if s0 = 0 then ((J.sb (J.cl h x0) 23 = true) ∧ (0 < d ∧ J.WP (d - 1) 198 0 [J.R (J.gv h x0 170), J.I x1] [] h (J.af J.WP d 195 21 24 [J.R x0, J.I x1] [] Q))) else ((J.sb (J.cl h x0) 23 = true) ∧ (0 < d ∧ J.WP (d - 1) 197 0 [J.R (J.gv h x0 170), J.I x1] [] h (J.af J.WP d 195 12 15 [J.R x0, J.I x1] [] Q))) := by
  refine (J.r_ifeq i195_4).trans (J.ite2 ?_ ?_)
  · refine (J.r_aload i195_16 rfl).trans ?_
    refine (J.r_getR i195_17).trans (and_congr_right fun q0 => ?_)
    refine (J.r_iload i195_20 rfl).trans ?_
    exact J.r_stat i195_21 (by decide) (Nat.le_of_ble_eq_true rfl) rfl rfl (Nat.le_of_ble_eq_true rfl)
  · refine (J.r_aload i195_7 rfl).trans ?_
    refine (J.r_getR i195_8).trans (and_congr_right fun q0 => ?_)
    refine (J.r_iload i195_11 rfl).trans ?_
    exact J.r_stat i195_12 (by decide) (Nat.le_of_ble_eq_true rfl) rfl rfl (Nat.le_of_ble_eq_true rfl)
theorem b195_15 (d : Nat) (h : J.H) (Q : J.O → J.H → Prop) (x0 x1 s0 : Int) : J.WP d 195 15 [J.R x0, J.I x1] [J.I s0] h Q ↔ (J.cr s0) ∧ Q (Sum.inl (some (J.I s0))) h := by
  exact J.r_iretC i195_15 rfl
theorem b195_24 (d : Nat) (h : J.H) (Q : J.O → J.H → Prop) (x0 x1 s0 : Int) : J.WP d 195 24 [J.R x0, J.I x1] [J.I s0] h Q ↔ (J.cr s0) ∧ Q (Sum.inl (some (J.I s0))) h := by
  exact J.r_iretC i195_24 rfl
/-! 196 java/lang/String.isLatin1()Z -/
theorem i196_0 : J.cd 196 0 = some (.getstatic 38, 3, 0, 0, 3) := by decide +kernel
theorem i196_3 : J.cd 196 3 = some (.ifCond .eq 14, 6, 17, 0, 0) := by decide +kernel
theorem i196_6 : J.cd 196 6 = some (.aload 0, 7, 0, 0, 0) := by decide +kernel
theorem i196_7 : J.cd 196 7 = some (.getfield 15, 10, 171, 23, 4) := by decide +kernel
theorem i196_10 : J.cd 196 10 = some (.ifCond .ne 7, 13, 17, 0, 0) := by decide +kernel
theorem i196_13 : J.cd 196 13 = some (.iconst 1, 14, 13, 0, 0) := by decide +kernel
theorem i196_14 : J.cd 196 14 = some (.goto 4, 17, 18, 0, 0) := by decide +kernel
theorem i196_17 : J.cd 196 17 = some (.iconst 0, 18, 17, 0, 0) := by decide +kernel
theorem i196_18 : J.cd 196 18 = some (.ireturn, 19, 0, 0, 3) := by decide +kernel
theorem b196_0 (d : Nat) (h : J.H) (Q : J.O → J.H → Prop) (x0 : Int) : J.WP d 196 0 [J.R x0] [] h Q ↔ if (J.gv h (-1) 0) = 0 then (J.WP d 196 17 [J.R x0] [] h Q) else ((J.sb (J.cl h x0) 23 = true) ∧ (if (J.gv h x0 171) = 0 then (J.WP d 196 18 [J.R x0] [J.I 1] h Q) else (J.WP d 196 17 [J.R x0] [] h Q))) := by
  refine (J.r_getsZ i196_0).trans ?_
  refine (J.r_ifeq i196_3).trans (J.ite2 ?_ ?_)
  · exact Iff.rfl
  · refine (J.r_aload i196_6 rfl).trans ?_
    refine (J.r_getB i196_7).trans (and_congr_right fun q0 => ?_)
    refine (J.r_ifne i196_10).trans (J.ite2 ?_ ?_)
    · refine (J.r_iconst i196_13).trans ?_
      refine (J.r_goto i196_14).trans ?_
      exact Iff.rfl
    · exact Iff.rfl
theorem b196_17 (d : Nat) (h : J.H) (Q : J.O → J.H → Prop) (x0 : Int) : J.WP d 196 17 [J.R x0] [] h Q ↔ J.WP d 196 18 [J.R x0] [J.I 0] h Q := by
  refine (J.r_iconst i196_17).trans ?_
  exact Iff.rfl
theorem b196_18 (d : Nat) (h : J.H) (Q : J.O → J.H → Prop) (x0 s0 : Int) : J.WP d 196 18 [J.R x0] [J.I s0] h Q ↔ (J.zo s0) ∧ Q (Sum.inl (some (J.I s0))) h := by
  exact J.r_iretZ i196_18 rfl
/-! 197 java/lang/StringLatin1.charAt([BI)C -/
theorem i197_0 : J.cd 197 0 = some (.iload 1, 1, 0, 0, 0) := by decide +kernel
theorem i197_1 : J.cd 197 1 = some (.aload 0, 2, 0, 0, 0) := by decide +kernel
theorem i197_2 : J.cd 197 2 = some (.arraylength, 3, 2, 0, 0) := by decide +kernel
theorem i197_3 : J.cd 197 3 = some (.invokestatic 9, 6, 134, 2, 2) := by decide +kernel
theorem i197_6 : J.cd 197 6 = some (.aload 0, 7, 0, 0, 0) := by decide +kernel
theorem i197_7 : J.cd 197 7 = some (.iload 1, 8, 0, 0, 0) := by decide +kernel
theorem i197_8 : J.cd 197 8 = some (.baload, 9, 8, 0, 0) := by decide +kernel
theorem i197_9 : J.cd 197 9 = some (.iconst 255, 12, 0, 0, 0) := by decide +kernel
theorem i197_12 : J.cd 197 12 = some (.iand, 13, 12, 0, 0) := by decide +kernel
theorem i197_13 : J.cd 197 13 = some (.i2c, 14, 13, 0, 0) := by decide +kernel
theorem i197_14 : J.cd 197 14 = some (.ireturn, 15, 0, 0, 5) := by decide +kernel
theorem b197_0 (d : Nat) (h : J.H) (Q : J.O → J.H → Prop) (x0 x1 : Int) : J.WP d 197 0 [J.R x0, J.I x1] [] h Q ↔ (J.ia (J.cl h x0) = true) ∧ (0 < d ∧ J.WP (d - 1) 134 0 [J.I x1, J.I (J.ln h x0)] [] h (J.af J.WP d 197 3 6 [J.R x0, J.I x1] [] Q)) := by
  refine (J.r_iload i197_0 rfl).trans ?_
  refine (J.r_aload i197_1 rfl).trans ?_
  refine (J.r_alen i197_2).trans (and_congr_right fun q0 => ?_)
  exact J.r_stat i197_3 (by decide) (Nat.le_of_ble_eq_true rfl) rfl rfl (Nat.le_of_ble_eq_true rfl)
theorem b197_6 (d : Nat) (h : J.H) (Q : J.O → J.H → Prop) (x0 x1 : Int) : J.WP d 197 6 [J.R x0, J.I x1] [] h Q ↔ (J.isA (J.cl h x0) 3 = true ∧ J.rg x1 (J.ln h x0)) ∧ ((J.cr ((J.and32 (J.gv h x0 x1) 255) % 65536)) ∧ Q (Sum.inl (some (J.I ((J.and32 (J.gv h x0 x1) 255) % 65536)))) h) := by
  refine (J.r_aload i197_6 rfl).trans ?_
  refine (J.r_iload i197_7 rfl).trans ?_
  refine (J.r_baload i197_8).trans (and_congr_right fun q0 => ?_)
  refine (J.r_iconst i197_9).trans ?_
  refine (J.r_iand i197_12).trans ?_
  refine (J.r_i2c i197_13).trans ?_
  exact J.r_iretC i197_14 rfl
/-! 198 java/lang/StringUTF16.charAt([BI)C -/
theorem i198_0 : J.cd 198 0 = some (.iload 1, 1, 0, 0, 0) := by decide +kernel
theorem i198_1 : J.cd 198 1 = some (.aload 0, 2, 0, 0, 0) := by decide +kernel
theorem i198_2 : J.cd 198 2 = some (.invokestatic 67, 5, 133, 2, 2) := by decide +kernel
theorem i198_5 : J.cd 198 5 = some (.aload 0, 6, 0, 0, 0) := by decide +kernel
theorem i198_6 : J.cd 198 6 = some (.iload 1, 7, 0, 0, 0) := by decide +kernel
theorem i198_7 : J.cd 198 7 = some (.invokestatic 71, 10, 126, 2, 2) := by decide +kernel
theorem i198_10 : J.cd 198 10 = some (.ireturn, 11, 0, 0, 5) := by decide +kernel
theorem b198_0 (d : Nat) (h : J.H) (Q : J.O → J.H → Prop) (x0 x1 : Int) : J.WP d 198 0 [J.R x0, J.I x1] [] h Q ↔ 0 < d ∧ J.WP (d - 1) 133 0 [J.I x1, J.R x0] [] h (J.af J.WP d 198 2 5 [J.R x0, J.I x1] [] Q) := by
  refine (J.r_iload i198_0 rfl).trans ?_
  refine (J.r_aload i198_1 rfl).trans ?_
  exact J.r_stat i198_2 (by decide) (Nat.le_of_ble_eq_true rfl) rfl rfl (Nat.le_of_ble_eq_true rfl)
theorem b198_5 (d : Nat) (h : J.H) (Q : J.O → J.H → Prop) (x0 x1 : Int) : J.WP d 198 5 [J.R x0, J.I x1] [] h Q ↔ 0 < d ∧ J.WP (d - 1) 126 0 [J.R x0, J.I x1] [] h (J.af J.WP d 198 7 10 [J.R x0, J.I x1] [] Q) := by
  refine (J.r_aload i198_5 rfl).trans ?_
  refine (J.r_iload i198_6 rfl).trans ?_
  exact J.r_stat i198_7 (by decide) (Nat.le_of_ble_eq_true rfl) rfl rfl (Nat.le_of_ble_eq_true rfl)
theorem b198_10 (d : Nat) (h : J.H) (Q : J.O → J.H → Prop) (x0 x1 s0 : Int) : J.WP d 198 10 [J.R x0, J.I x1] [J.I s0] h Q ↔ (J.cr s0) ∧ Q (Sum.inl (some (J.I s0))) h := by
  exact J.r_iretC i198_10 rfl
