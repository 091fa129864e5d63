set_option maxRecDepth 100000
/-! 9 java/util/ArrayList.<init>()V -/
theorem i9_0 : J.cd 9 0 = some (.aload 0, 1, 0, 0, 0) := by decide +kernel
theorem i9_1 : J.cd 9 1 = some (.invokespecial 1, 4, 10, 1, 1) := by decide +kernel
theorem i9_4 : J.cd 9 4 = some (.aload 0, 5, 0, 0, 0) := by decide +kernel
theorem i9_5 : J.cd 9 5 = some (.getstatic 39, 8, 1, 0, 2) := by decide +kernel
theorem i9_8 : J.cd 9 8 = some (.putfield 9, 11, 19, 6, 2) := by decide +kernel
theorem i9_11 : J.cd 9 11 = some (.return_, 12, 11, 0, 0) := by decide +kernel
theorem b9_0 (d : Nat) (h : J.H) (Q : J.O → J.H → Prop) (x0 : Int) : J.WP d 9 0 [J.R x0] [] h Q ↔ J.ik (J.cl h x0) = true ∧ 0 < d ∧ J.WP (d - 1) 10 0 [J.R x0] [] h (J.af J.WP d 9 1 4 [J.R x0] [] Q) := by
  refine (J.r_aload i9_0 rfl).trans ?_
  exact J.r_spec i9_1 (by decide) ⟨by decide, Nat.le_of_ble_eq_true rfl⟩ rfl rfl (Nat.le_of_ble_eq_true rfl)
theorem b9_4 (d : Nat) (h : J.H) (Q : J.O → J.H → Prop) (x0 : Int) : J.WP d 9 4 [J.R x0] [] h Q ↔ (J.sb (J.cl h x0) 6 = true ∧ J.cl h x0 < 300) ∧ (Q (Sum.inl none) (J.sv h x0 19 (J.gv h (-1) 1))) := by
  refine (J.r_aload i9_4 rfl).trans ?_
  refine (J.r_getsR i9_5).trans ?_
  refine (J.r_putR i9_8).trans (and_congr_right fun q0 => ?_)
  exact J.r_ret i9_11 rfl
/-! 10 java/util/AbstractList.<init>()V -/
theorem i10_0 : J.cd 10 0 = some (.aload 0, 1, 0, 0, 0) := by decide +kernel
theorem i10_1 : J.cd 10 1 = some (.invokespecial 1, 4, 11, 1, 1) := by decide +kernel
theorem i10_4 : J.cd 10 4 = some (.aload 0, 5, 0, 0, 0) := by decide +kernel
theorem i10_5 : J.cd 10 5 = some (.iconst 0, 6, 5, 0, 0) := by decide +kernel
theorem i10_6 : J.cd 10 6 = some (.putfield 7, 9, 21, 87, 0) := by decide +kernel
theorem i10_9 : J.cd 10 9 = some (.return_, 10, 9, 0, 0) := by decide +kernel
theorem b10_0 (d : Nat) (h : J.H) (Q : J.O → J.H → Prop) (x0 : Int) : J.WP d 10 0 [J.R x0] [] h Q ↔ J.ik (J.cl h x0) = true ∧ 0 < d ∧ J.WP (d - 1) 11 0 [J.R x0] [] h (J.af J.WP d 10 1 4 [J.R x0] [] Q) := by
  refine (J.r_aload i10_0 rfl).trans ?_
  exact J.r_spec i10_1 (by decide) ⟨by decide, Nat.le_of_ble_eq_true rfl⟩ rfl rfl (Nat.le_of_ble_eq_true rfl)
theorem b10_4 (d : Nat) (h : J.H) (Q : J.O → J.H → Prop) (x0 : Int) : J.WP d 10 4 [J.R x0] [] h Q ↔ (J.sb (J.cl h x0) 87 = true ∧ J.cl h x0 < 300) ∧ (Q (Sum.inl none) (J.sv h x0 21 0)) := by
  refine (J.r_aload i10_4 rfl).trans ?_
  refine (J.r_iconst i10_5).trans ?_
  refine (J.r_putI i10_6).trans (and_congr_right fun q0 => ?_)
  exact J.r_ret i10_9 rfl
/-! 11 java/util/AbstractCollection.<init>()V -/
theorem i11_0 : J.cd 11 0 = some (.aload 0, 1, 0, 0, 0) := by decide +kernel
theorem i11_1 : J.cd 11 1 = some (.invokespecial 1, 4, 2005, 1, 0) := by decide +kernel
theorem i11_4 : J.cd 11 4 = some (.return_, 5, 4, 0, 0) := by decide +kernel
theorem b11_0 (d : Nat) (h : J.H) (Q : J.O → J.H → Prop) (x0 : Int) : J.WP d 11 0 [J.R x0] [] h Q ↔ (J.ik (J.cl h x0) = true) ∧ (Q (Sum.inl none) h) := by
  refine (J.r_aload i11_0 rfl).trans ?_
  refine (J.r_obj i11_1).trans (and_congr_right fun q0 => ?_)
  exact J.r_ret i11_4 rfl
/-! 17 java/util/ArrayList.add(Ljava/lang/Object;)Z -/
theorem i17_0 : J.cd 17 0 = some (.aload 0, 1, 0, 0, 0) := by decide +kernel
theorem i17_1 : J.cd 17 1 = some (.dup, 2, 1, 0, 0) := by decide +kernel
theorem i17_2 : J.cd 17 2 = some (.getfield 63, 5, 21, 87, 0) := by decide +kernel
theorem i17_5 : J.cd 17 5 = some (.iconst 1, 6, 5, 0, 0) := by decide +kernel
theorem i17_6 : J.cd 17 6 = some (.iadd, 7, 6, 0, 0) := by decide +kernel
theorem i17_7 : J.cd 17 7 = some (.putfield 63, 10, 21, 87, 0) := by decide +kernel
theorem i17_10 : J.cd 17 10 = some (.aload 0, 11, 0, 0, 0) := by decide +kernel
theorem i17_11 : J.cd 17 11 = some (.aload 1, 12, 0, 0, 0) := by decide +kernel
theorem i17_12 : J.cd 17 12 = some (.aload 0, 13, 0, 0, 0) := by decide +kernel
theorem i17_13 : J.cd 17 13 = some (.getfield 9, 16, 19, 6, 2) := by decide +kernel
theorem i17_16 : J.cd 17 16 = some (.aload 0, 17, 0, 0, 0) := by decide +kernel
theorem i17_17 : J.cd 17 17 = some (.getfield 48, 20, 20, 6, 0) := by decide +kernel
theorem i17_20 : J.cd 17 20 = some (.invokevirtual 131, 23, 223, 3, 0) := by decide +kernel
theorem i17_23 : J.cd 17 23 = some (.iconst 1, 24, 23, 0, 0) := by decide +kernel
theorem i17_24 : J.cd 17 24 = some (.ireturn, 25, 0, 0, 3) := by decide +kernel
theorem b17_0 (d : Nat) (h : J.H) (Q : J.O → J.H → Prop) (x0 x1 : Int) : J.WP d 17 0 [J.R x0, J.R x1] [] h Q ↔ (J.sb (J.cl h x0) 87 = true) ∧ ((J.sb (J.cl h x0) 87 = true ∧ J.cl h x0 < 300) ∧ ((J.sb (J.cl h x0) 6 = true) ∧ (J.cl h x0 = 6 ∧ 0 < d ∧ J.WP (d - 1) 18 0 [J.R x0, J.R x1, J.R (J.gv (J.sv h x0 21 (J.w32 ((J.gv h x0 21) + 1))) x0 19), J.I (J.gv (J.sv h x0 21 (J.w32 ((J.gv h x0 21) + 1))) x0 20)] [] (J.sv h x0 21 (J.w32 ((J.gv h x0 21) + 1))) (J.af J.WP d 17 20 23 [J.R x0, J.R x1] [] Q)))) := by
  refine (J.r_aload i17_0 rfl).trans ?_
  refine (J.r_dupR i17_1).trans ?_
  refine (J.r_getI i17_2).trans (and_congr_right fun q0 => ?_)
  refine (J.r_iconst i17_5).trans ?_
  refine (J.r_iadd i17_6).trans ?_
  refine (J.r_putI i17_7).trans (and_congr_right fun q1 => ?_)
  refine (J.r_aload i17_10 rfl).trans ?_
  refine (J.r_aload i17_11 rfl).trans ?_
  refine (J.r_aload i17_12 rfl).trans ?_
  refine (J.r_getR i17_13).trans (and_congr_right fun q2 => ?_)
  refine (J.r_aload i17_16 rfl).trans ?_
  refine (J.r_getI i17_17).trans ((J.tru q2).trans ?_)
  exact J.r_virt1 (k2 := 18) (m := 4) 6 i17_20 rfl (by decide +kernel) (by decide) rfl (Nat.le_of_ble_eq_true rfl)
theorem b17_23 (d : Nat) (h : J.H) (Q : J.O → J.H → Prop) (x0 x1 : Int) : J.WP d 17 23 [J.R x0, J.R x1] [] h Q ↔ (J.zo 1) ∧ Q (Sum.inl (some (J.I 1))) h := by
  refine (J.r_iconst i17_23).trans ?_
  exact J.r_iretZ i17_24 rfl
/-! 18 java/util/ArrayList.add(Ljava/lang/Object;[Ljava/lang/Object;I)V -/
theorem i18_0 : J.cd 18 0 = some (.iload 3, 1, 0, 0, 0) := by decide +kernel
theorem i18_1 : J.cd 18 1 = some (.aload 2, 2, 0, 0, 0) := by decide +kernel
theorem i18_2 : J.cd 18 2 = some (.arraylength, 3, 2, 0, 0) := by decide +kernel
theorem i18_3 : J.cd 18 3 = some (.if_icmp .ne 8, 6, 11, 0, 0) := by decide +kernel
theorem i18_6 : J.cd 18 6 = some (.aload 0, 7, 0, 0, 0) := by decide +kernel
theorem i18_7 : J.cd 18 7 = some (.invokevirtual 129, 10, 224, 0, 0) := by decide +kernel
theorem i18_10 : J.cd 18 10 = some (.astore 2, 11, 0, 0, 0) := by decide +kernel
theorem i18_11 : J.cd 18 11 = some (.aload 2, 12, 0, 0, 0) := by decide +kernel
theorem i18_12 : J.cd 18 12 = some (.iload 3, 13, 0, 0, 0) := by decide +kernel
theorem i18_13 : J.cd 18 13 = some (.aload 1, 14, 0, 0, 0) := by decide +kernel
theorem i18_14 : J.cd 18 14 = some (.aastore, 15, 14, 0, 0) := by decide +kernel
theorem i18_15 : J.cd 18 15 = some (.aload 0, 16, 0, 0, 0) := by decide +kernel
theorem i18_16 : J.cd 18 16 = some (.iload 3, 17, 0, 0, 0) := by decide +kernel
theorem i18_17 : J.cd 18 17 = some (.iconst 1, 18, 17, 0, 0) := by decide +kernel
theorem i18_18 : J.cd 18 18 = some (.iadd, 19, 18, 0, 0) := by decide +kernel
theorem i18_19 : J.cd 18 19 = some (.putfield 48, 22, 20, 6, 0) := by decide +kernel
theorem i18_22 : J.cd 18 22 = some (.return_, 23, 22, 0, 0) := by decide +kernel
theorem b18_0 (d : Nat) (h : J.H) (Q : J.O → J.H → Prop) (x0 x1 x2 x3 : Int) : J.WP d 18 0 [J.R x0, J.R x1, J.R x2, J.I x3] [] h Q ↔ (J.ia (J.cl h x2) = true) ∧ (if x3 = (J.ln h x2) then (J.cl h x0 = 6 ∧ 0 < d ∧ J.WP (d - 1) 19 0 [J.R x0] [] h (J.af J.WP d 18 7 10 [J.R x0, J.R x1, J.R x2, J.I x3] [] Q)) else (J.WP d 18 11 [J.R x0, J.R x1, J.R x2, J.I x3] [] h Q)) := by
  refine (J.r_iload i18_0 rfl).trans ?_
  refine (J.r_aload i18_1 rfl).trans ?_
  refine (J.r_alen i18_2).trans (and_congr_right fun q0 => ?_)
  refine (J.r_icne i18_3).trans (J.ite2 ?_ ?_)
  · refine (J.r_aload i18_6 rfl).trans ?_
    exact J.r_virt1 (k2 := 19) (m := 1) 6 i18_7 rfl (by decide +kernel) (by decide) rfl (Nat.le_of_ble_eq_true rfl)
  · exact Iff.rfl
theorem b18_10 (d : Nat) (h : J.H) (Q : J.O → J.H → Prop) (x0 x1 x2 x3 s0 : Int) : J.WP d 18 10 [J.R x0, J.R x1, J.R x2, J.I x3] [J.R s0] h Q ↔ J.WP d 18 11 [J.R x0, J.R x1, J.R s0, J.I x3] [] h Q := by
  refine (J.r_astore i18_10 (Nat.le_of_ble_eq_true rfl) rfl).trans ?_
  exact Iff.rfl
theorem b18_11 (d : Nat) (h : J.H) (Q : J.O → J.H → Prop) (x0 x1 x2 x3 : Int) : J.WP d 18 11 [J.R x0, J.R x1, J.R x2, J.I x3] [] h Q ↔ (J.cl h x2 < 300 ∧ J.isA (J.cl h x2) 2 = true ∧ J.rg x3 (J.ln h x2) ∧ J.aok h x2 x1) ∧ ((J.sb (J.cl h x0) 6 = true ∧ J.cl h x0 < 300) ∧ (Q (Sum.inl none) (J.sv (J.sv h x2 x3 x1) x0 20 (J.w32 (x3 + 1))))) := by
  refine (J.r_aload i18_11 rfl).trans ?_
  refine (J.r_iload i18_12 rfl).trans ?_
  refine (J.r_aload i18_13 rfl).trans ?_
  refine (J.r_aastore i18_14).trans (and_congr_right fun q0 => ?_)
  refine (J.r_aload i18_15 rfl).trans ?_
  refine (J.r_iload i18_16 rfl).trans ?_
  refine (J.r_iconst i18_17).trans ?_
  refine (J.r_iadd i18_18).trans ?_
  refine (J.r_putI i18_19).trans (and_congr_right fun q1 => ?_)
  exact J.r_ret i18_22 rfl
/-! 19 java/util/ArrayList.grow()[Ljava/lang/Object; -/
theorem i19_0 : J.cd 19 0 = some (.aload 0, 1, 0, 0, 0) := by decide +kernel
theorem i19_1 : J.cd 19 1 = some (.aload 0, 2, 0, 0, 0) := by decide +kernel
theorem i19_2 : J.cd 19 2 = some (.getfield 48, 5, 20, 6, 0) := by decide +kernel
theorem i19_5 : J.cd 19 5 = some (.iconst 1, 6, 5, 0, 0) := by decide +kernel
theorem i19_6 : J.cd 19 6 = some (.iadd, 7, 6, 0, 0) := by decide +kernel
theorem i19_7 : J.cd 19 7 = some (.invokevirtual 69, 10, 225, 1, 0) := by decide +kernel
theorem i19_10 : J.cd 19 10 = some (.areturn, 11, 10, 0, 0) := by decide +kernel
theorem b19_0 (d : Nat) (h : J.H) (Q : J.O → J.H → Prop) (x0 : Int) : J.WP d 19 0 [J.R x0] [] h Q ↔ (J.sb (J.cl h x0) 6 = true) ∧ (J.cl h x0 = 6 ∧ 0 < d ∧ J.WP (d - 1) 20 0 [J.R x0, J.I (J.w32 ((J.gv h x0 20) + 1)), J.U, J.U] [] h (J.af J.WP d 19 7 10 [J.R x0] [] Q)) := by
  refine (J.r_aload i19_0 rfl).trans ?_
  refine (J.r_aload i19_1 rfl).trans ?_
  refine (J.r_getI i19_2).trans (and_congr_right fun q0 => ?_)
  refine (J.r_iconst i19_5).trans ?_
  refine (J.r_iadd i19_6).trans ?_
  exact J.r_virt1 (k2 := 20) (m := 4) 6 i19_7 rfl (by decide +kernel) (by decide) rfl (Nat.le_of_ble_eq_true rfl)
theorem b19_10 (d : Nat) (h : J.H) (Q : J.O → J.H → Prop) (x0 s0 : Int) : J.WP d 19 10 [J.R x0] [J.R s0] h Q ↔ Q (Sum.inl (some (J.R s0))) h := by
  exact J.r_aret i19_10 rfl
/-! 20 java/util/ArrayList.grow(I)[Ljava/lang/Object; -/
theorem i20_0 : J.cd 20 0 = some (.aload 0, 1, 0, 0, 0) := by decide +kernel
theorem i20_1 : J.cd 20 1 = some (.getfield 9, 4, 19, 6, 2) := by decide +kernel
theorem i20_4 : J.cd 20 4 = some (.arraylength, 5, 4, 0, 0) := by decide +kernel
theorem i20_5 : J.cd 20 5 = some (.istore 2, 6, 0, 0, 0) := by decide +kernel
theorem i20_6 : J.cd 20 6 = some (.iload 2, 7, 0, 0, 0) := by decide +kernel
theorem i20_7 : J.cd 20 7 = some (.ifCond .gt 13, 10, 20, 0, 0) := by decide +kernel
theorem i20_10 : J.cd 20 10 = some (.aload 0, 11, 0, 0, 0) := by decide +kernel
theorem i20_11 : J.cd 20 11 = some (.getfield 9, 14, 19, 6, 2) := by decide +kernel
theorem i20_14 : J.cd 20 14 = some (.getstatic 39, 17, 1, 0, 2) := by decide +kernel
theorem i20_17 : J.cd 20 17 = some (.if_acmp .eq 28, 20, 45, 0, 0) := by decide +kernel
theorem i20_20 : J.cd 20 20 = some (.iload 2, 21, 0, 0, 0) := by decide +kernel
theorem i20_21 : J.cd 20 21 = some (.iload 1, 22, 0, 0, 0) := by decide +kernel
theorem i20_22 : J.cd 20 22 = some (.iload 2, 23, 0, 0, 0) := by decide +kernel
theorem i20_23 : J.cd 20 23 = some (.isub, 24, 23, 0, 0) := by decide +kernel
theorem i20_24 : J.cd 20 24 = some (.iload 2, 25, 0, 0, 0) := by decide +kernel
theorem i20_25 : J.cd 20 25 = some (.iconst 1, 26, 25, 0, 0) := by decide +kernel
theorem i20_26 : J.cd 20 26 = some (.ishr, 27, 26, 0, 0) := by decide +kernel
theorem i20_27 : J.cd 20 27 = some (.invokestatic 73, 30, 21, 3, 4) := by decide +kernel
theorem i20_30 : J.cd 20 30 = some (.istore 3, 31, 0, 0, 0) := by decide +kernel
theorem i20_31 : J.cd 20 31 = some (.aload 0, 32, 0, 0, 0) := by decide +kernel
theorem i20_32 : J.cd 20 32 = some (.aload 0, 33, 0, 0, 0) := by decide +kernel
theorem i20_33 : J.cd 20 33 = some (.getfield 9, 36, 19, 6, 2) := by decide +kernel
theorem i20_36 : J.cd 20 36 = some (.iload 3, 37, 0, 0, 0) := by decide +kernel
theorem i20_37 : J.cd 20 37 = some (.invokestatic 66, 40, 24, 2, 2) := by decide +kernel
theorem i20_40 : J.cd 20 40 = some (.dup_x1, 41, 40, 0, 0) := by decide +kernel
theorem i20_41 : J.cd 20 41 = some (.putfield 9, 44, 19, 6, 2) := by decide +kernel
theorem i20_44 : J.cd 20 44 = some (.areturn, 45, 44, 0, 0) := by decide +kernel
theorem i20_45 : J.cd 20 45 = some (.aload 0, 46, 0, 0, 0) := by decide +kernel
theorem i20_46 : J.cd 20 46 = some (.iconst 10, 48, 0, 0, 0) := by decide +kernel
theorem i20_48 : J.cd 20 48 = some (.iload 1, 49, 0, 0, 0) := by decide +kernel
theorem i20_49 : J.cd 20 49 = some (.invokestatic 79, 52, 22, 2, 2) := by decide +kernel
theorem i20_52 : J.cd 20 52 = some (.anewarray 7, 55, 85, 0, 214) := by decide +kernel
theorem i20_55 : J.cd 20 55 = some (.dup_x1, 56, 55, 0, 0) := by decide +kernel
theorem i20_56 : J.cd 20 56 = some (.putfield 9, 59, 19, 6, 2) := by decide +kernel
theorem i20_59 : J.cd 20 59 = some (.areturn, 60, 59, 0, 0) := by decide +kernel
theorem b20_0 (d : Nat) (h : J.H) (Q : J.O → J.H → Prop) (x0 x1 : Int) : J.WP d 20 0 [J.R x0, J.I x1, J.U, J.U] [] h Q ↔ (J.sb (J.cl h x0) 6 = true) ∧ ((J.ia (J.cl h (J.gv h x0 19)) = true) ∧ (if (J.ln h (J.gv h x0 19)) ≤ 0 then (if (J.gv h x0 19) = (J.gv h (-1) 1) then (0 < d ∧ J.WP (d - 1) 22 0 [J.I 10, J.I x1] [] h (J.af J.WP d 20 49 52 [J.R x0, J.I x1, J.I (J.ln h (J.gv h x0 19)), J.U] [J.R x0] Q)) else (J.WP d 20 20 [J.R x0, J.I x1, J.I (J.ln h (J.gv h x0 19)), J.U] [] h Q)) else (J.WP d 20 20 [J.R x0, J.I x1, J.I (J.ln h (J.gv h x0 19)), J.U] [] h Q))) := by
  refine (J.r_aload i20_0 rfl).trans ?_
  refine (J.r_getR i20_1).trans (and_congr_right fun q0 => ?_)
  refine (J.r_alen i20_4).trans (and_congr_right fun q1 => ?_)
  refine (J.r_istore i20_5 (Nat.le_of_ble_eq_true rfl) rfl).trans ?_
  refine (J.r_iload i20_6 rfl).trans ?_
  refine (J.r_ifgt i20_7).trans (J.ite2 ?_ ?_)
  · refine (J.r_aload i20_10 rfl).trans ?_
    refine (J.r_getR i20_11).trans ((J.tru q0).trans ?_)
    refine (J.r_getsR i20_14).trans ?_
    refine (J.r_aceq i20_17).trans (J.ite2 ?_ ?_)
    · refine (J.r_aload i20_45 rfl).trans ?_
      refine (J.r_iconst i20_46).trans ?_
      refine (J.r_iload i20_48 rfl).trans ?_
      exact J.r_stat i20_49 (by decide) (Nat.le_of_ble_eq_true rfl) rfl rfl (Nat.le_of_ble_eq_true rfl)
    · exact Iff.rfl
  · exact Iff.rfl
theorem b20_20 (d : Nat) (h : J.H) (Q : J.O → J.H → Prop) (x0 x1 x2 : Int) : J.WP d 20 20 [J.R x0, J.I x1, J.I x2, J.U] [] h Q ↔ 0 < d ∧ J.WP (d - 1) 21 0 [J.I x2, J.I (J.w32 (x1 - x2)), J.I (J.shr32 x2 1), J.U] [] h (J.af J.WP d 20 27 30 [J.R x0, J.I x1, J.I x2, J.U] [] Q) := by
  refine (J.r_iload i20_20 rfl).trans ?_
  refine (J.r_iload i20_21 rfl).trans ?_
  refine (J.r_iload i20_22 rfl).trans ?_
  refine (J.r_isub i20_23).trans ?_
  refine (J.r_iload i20_24 rfl).trans ?_
  refine (J.r_iconst i20_25).trans ?_
  refine (J.r_ishr i20_26).trans ?_
  exact J.r_stat i20_27 (by decide) (Nat.le_of_ble_eq_true rfl) rfl rfl (Nat.le_of_ble_eq_true rfl)
theorem b20_30 (d : Nat) (h : J.H) (Q : J.O → J.H → Prop) (x0 x1 x2 s0 : Int) : J.WP d 20 30 [J.R x0, J.I x1, J.I x2, J.U] [J.I s0] h Q ↔ (J.sb (J.cl h x0) 6 = true) ∧ (0 < d ∧ J.WP (d - 1) 24 0 [J.R (J.gv h x0 19), J.I s0] [] h (J.af J.WP d 20 37 40 [J.R x0, J.I x1, J.I x2, J.I s0] [J.R x0] Q)) := by
  refine (J.r_istore i20_30 (Nat.le_of_ble_eq_true rfl) rfl).trans ?_
  refine (J.r_aload i20_31 rfl).trans ?_
  refine (J.r_aload i20_32 rfl).trans ?_
  refine (J.r_getR i20_33).trans (and_congr_right fun q0 => ?_)
  refine (J.r_iload i20_36 rfl).trans ?_
  exact J.r_stat i20_37 (by decide) (Nat.le_of_ble_eq_true rfl) rfl rfl (Nat.le_of_ble_eq_true rfl)
theorem b20_40 (d : Nat) (h : J.H) (Q : J.O → J.H → Prop) (x0 x1 x2 x3 s0 s1 : Int) : J.WP d 20 40 [J.R x0, J.I x1, J.I x2, J.I x3] [J.R s1, J.R s0] h Q ↔ (J.sb (J.cl h s0) 6 = true ∧ J.cl h s0 < 300) ∧ (Q (Sum.inl (some (J.R s1))) (J.sv h s0 19 s1)) := by
  refine (J.r_dupx1RR i20_40).trans ?_
  refine (J.r_putR i20_41).trans (and_congr_right fun q0 => ?_)
  exact J.r_aret i20_44 rfl
theorem b20_52 (d : Nat) (h : J.H) (Q : J.O → J.H → Prop) (x0 x1 x2 s0 s1 : Int) : J.WP d 20 52 [J.R x0, J.I x1, J.I x2, J.U] [J.I s1, J.R s0] h Q ↔ (0 ≤ s1 ∧ J.us h + 7 + s1 ≤ J.UM) ∧ ((J.sb (J.cl (J.nw h 214 s1 (7 + s1)) s0) 6 = true ∧ J.cl (J.nw h 214 s1 (7 + s1)) s0 < 300) ∧ (Q (Sum.inl (some (J.R (J.nx h)))) (J.sv (J.nw h 214 s1 (7 + s1)) s0 19 (J.nx h)))) := by
  refine (J.r_anewarray i20_52).trans (and_congr_right fun q0 => ?_)
  refine (J.r_dupx1RR i20_55).trans ?_
  refine (J.r_putR i20_56).trans (and_congr_right fun q1 => ?_)
  exact J.r_aret i20_59 rfl
/-! 21 jdk/internal/util/ArraysSupport.newLength(III)I -/
theorem i21_0 : J.cd 21 0 = some (.iload 0, 1, 0, 0, 0) := by decide +kernel
theorem i21_1 : J.cd 21 1 = some (.iload 1, 2, 0, 0, 0) := by decide +kernel
theorem i21_2 : J.cd 21 2 = some (.iload 2, 3, 0, 0, 0) := by decide +kernel
theorem i21_3 : J.cd 21 3 = some (.invokestatic 194, 6, 22, 2, 2) := by decide +kernel
theorem i21_6 : J.cd 21 6 = some (.iadd, 7, 6, 0, 0) := by decide +kernel
theorem i21_7 : J.cd 21 7 = some (.istore 3, 8, 0, 0, 0) := by decide +kernel
theorem i21_8 : J.cd 21 8 = some (.iconst 0, 9, 8, 0, 0) := by decide +kernel
theorem i21_9 : J.cd 21 9 = some (.iload 3, 10, 0, 0, 0) := by decide +kernel
theorem i21_10 : J.cd 21 10 = some (.if_icmp .ge 11, 13, 21, 0, 0) := by decide +kernel
theorem i21_13 : J.cd 21 13 = some (.iload 3, 14, 0, 0, 0) := by decide +kernel
theorem i21_14 : J.cd 21 14 = some (.ldc 200, 16, 0, 0, 2147483639) := by decide +kernel
theorem i21_16 : J.cd 21 16 = some (.if_icmp .gt 5, 19, 21, 0, 0) := by decide +kernel
theorem i21_19 : J.cd 21 19 = some (.iload 3, 20, 0, 0, 0) := by decide +kernel
theorem i21_20 : J.cd 21 20 = some (.ireturn, 21, 0, 0, 0) := by decide +kernel
theorem i21_21 : J.cd 21 21 = some (.iload 0, 22, 0, 0, 0) := by decide +kernel
theorem i21_22 : J.cd 21 22 = some (.iload 1, 23, 0, 0, 0) := by decide +kernel
theorem i21_23 : J.cd 21 23 = some (.invokestatic 201, 26, 23, 2, 3) := by decide +kernel
theorem i21_26 : J.cd 21 26 = some (.ireturn, 27, 0, 0, 0) := by decide +kernel
theorem b21_0 (d : Nat) (h : J.H) (Q : J.O → J.H → Prop) (x0 x1 x2 : Int) : J.WP d 21 0 [J.I x0, J.I x1, J.I x2, J.U] [] h Q ↔ 0 < d ∧ J.WP (d - 1) 22 0 [J.I x1, J.I x2] [] h (J.af J.WP d 21 3 6 [J.I x0, J.I x1, J.I x2, J.U] [J.I x0] Q) := by
  refine (J.r_iload i21_0 rfl).trans ?_
  refine (J.r_iload i21_1 rfl).trans ?_
  refine (J.r_iload i21_2 rfl).trans ?_
  exact J.r_stat i21_3 (by decide) (Nat.le_of_ble_eq_true rfl) rfl rfl (Nat.le_of_ble_eq_true rfl)
theorem b21_6 (d : Nat) (h : J.H) (Q : J.O → J.H → Prop) (x0 x1 x2 s0 s1 : Int) : J.WP d 21 6 [J.I x0, J.I x1, J.I x2, J.U] [J.I s1, J.I s0] h Q ↔ if (0 : Int) < (J.w32 (s0 + s1)) then (if (J.w32 (s0 + s1)) ≤ 2147483639 then (Q (Sum.inl (some (J.I (J.w32 (s0 + s1))))) h) else (J.WP d 21 21 [J.I x0, J.I x1, J.I x2, J.I (J.w32 (s0 + s1))] [] h Q)) else (J.WP d 21 21 [J.I x0, J.I x1, J.I x2, J.I (J.w32 (s0 + s1))] [] h Q) := by
  refine (J.r_iadd i21_6).trans ?_
  refine (J.r_istore i21_7 (Nat.le_of_ble_eq_true rfl) rfl).trans ?_
  refine (J.r_iconst i21_8).trans ?_
  refine (J.r_iload i21_9 rfl).trans ?_
  refine (J.r_icge i21_10).trans (J.ite2 ?_ ?_)
  · refine (J.r_iload i21_13 rfl).trans ?_
    refine (J.r_ldc i21_14).trans ?_
    refine (J.r_icgt i21_16).trans (J.ite2 ?_ ?_)
    · refine (J.r_iload i21_19 rfl).trans ?_
      exact J.r_iret i21_20 rfl
    · exact Iff.rfl
  · exact Iff.rfl
theorem b21_21 (d : Nat) (h : J.H) (Q : J.O → J.H → Prop) (x0 x1 x2 x3 : Int) : J.WP d 21 21 [J.I x0, J.I x1, J.I x2, J.I x3] [] h Q ↔ 0 < d ∧ J.WP (d - 1) 23 0 [J.I x0, J.I x1, J.U] [] h (J.af J.WP d 21 23 26 [J.I x0, J.I x1, J.I x2, J.I x3] [] Q) := by
  refine (J.r_iload i21_21 rfl).trans ?_
  refine (J.r_iload i21_22 rfl).trans ?_
  exact J.r_stat i21_23 (by decide) (Nat.le_of_ble_eq_true rfl) rfl rfl (Nat.le_of_ble_eq_true rfl)
theorem b21_26 (d : Nat) (h : J.H) (Q : J.O → J.H → Prop) (x0 x1 x2 x3 s0 : Int) : J.WP d 21 26 [J.I x0, J.I x1, J.I x2, J.I x3] [J.I s0] h Q ↔ Q (Sum.inl (some (J.I s0))) h := by
  exact J.r_iret i21_26 rfl
/-! 22 java/lang/Math.max(II)I -/
theorem i22_0 : J.cd 22 0 = some (.iload 0, 1, 0, 0, 0) := by decide +kernel
theorem i22_1 : J.cd 22 1 = some (.iload 1, 2, 0, 0, 0) := by decide +kernel
theorem i22_2 : J.cd 22 2 = some (.if_icmp .lt 7, 5, 9, 0, 0) := by decide +kernel
theorem i22_5 : J.cd 22 5 = some (.iload 0, 6, 0, 0, 0) := by decide +kernel
theorem i22_6 : J.cd 22 6 = some (.goto 4, 9, 10, 0, 0) := by decide +kernel
theorem i22_9 : J.cd 22 9 = some (.iload 1, 10, 0, 0, 0) := by decide +kernel
theorem i22_10 : J.cd 22 10 = some (.ireturn, 11, 0, 0, 0) := by decide +kernel
theorem b22_0 (d : Nat) (h : J.H) (Q : J.O → J.H → Prop) (x0 x1 : Int) : J.WP d 22 0 [J.I x0, J.I x1] [] h Q ↔ if x0 < x1 then (J.WP d 22 10 [J.I x0, J.I x1] [J.I x1] h Q) else (J.WP d 22 10 [J.I x0, J.I x1] [J.I x0] h Q) := by
  refine (J.r_iload i22_0 rfl).trans ?_
  refine (J.r_iload i22_1 rfl).trans ?_
  refine (J.r_iclt i22_2).trans (J.ite2 ?_ ?_)
  · refine (J.r_iload i22_9 rfl).trans ?_
    exact Iff.rfl
  · refine (J.r_iload i22_5 rfl).trans ?_
    refine (J.r_goto i22_6).trans ?_
    exact Iff.rfl
theorem b22_10 (d : Nat) (h : J.H) (Q : J.O → J.H → Prop) (x0 x1 s0 : Int) : J.WP d 22 10 [J.I x0, J.I x1] [J.I s0] h Q ↔ Q (Sum.inl (some (J.I s0))) h := by
  exact J.r_iret i22_10 rfl
/-! 23 jdk/internal/util/ArraysSupport.hugeLength(II)I -/
theorem i23_0 : J.cd 23 0 = some (.iload 0, 1, 0, 0, 0) := by decide +kernel
theorem i23_1 : J.cd 23 1 = some (.iload 1, 2, 0, 0, 0) := by decide +kernel
theorem i23_2 : J.cd 23 2 = some (.iadd, 3, 2, 0, 0) := by decide +kernel
theorem i23_3 : J.cd 23 3 = some (.istore 2, 4, 0, 0, 0) := by decide +kernel
theorem i23_4 : J.cd 23 4 = some (.iload 2, 5, 0, 0, 0) := by decide +kernel
theorem i23_5 : J.cd 23 5 = some (.ifCond .ge 44, 8, 49, 0, 0) := by decide +kernel
theorem i23_49 : J.cd 23 49 = some (.iload 2, 50, 0, 0, 0) := by decide +kernel
theorem i23_50 : J.cd 23 50 = some (.ldc 200, 52, 0, 0, 2147483639) := by decide +kernel
theorem i23_52 : J.cd 23 52 = some (.if_icmp .gt 6, 55, 58, 0, 0) := by decide +kernel
theorem i23_55 : J.cd 23 55 = some (.ldc 200, 57, 0, 0, 2147483639) := by decide +kernel
theorem i23_57 : J.cd 23 57 = some (.ireturn, 58, 0, 0, 0) := by decide +kernel
theorem i23_58 : J.cd 23 58 = some (.iload 2, 59, 0, 0, 0) := by decide +kernel
theorem i23_59 : J.cd 23 59 = some (.ireturn, 60, 0, 0, 0) := by decide +kernel
theorem b23_0 (d : Nat) (h : J.H) (Q : J.O → J.H → Prop) (x0 x1 : Int) : J.WP d 23 0 [J.I x0, J.I x1, J.U] [] h Q ↔ if (J.w32 (x0 + x1)) < 0 then (J.WP d 23 8 [J.I x0, J.I x1, J.I (J.w32 (x0 + x1))] [] h Q) else (if (J.w32 (x0 + x1)) ≤ 2147483639 then (Q (Sum.inl (some (J.I 2147483639))) h) else (Q (Sum.inl (some (J.I (J.w32 (x0 + x1))))) h)) := by
  refine (J.r_iload i23_0 rfl).trans ?_
  refine (J.r_iload i23_1 rfl).trans ?_
  refine (J.r_iadd i23_2).trans ?_
  refine (J.r_istore i23_3 (Nat.le_of_ble_eq_true rfl) rfl).trans ?_
  refine (J.r_iload i23_4 rfl).trans ?_
  refine (J.r_ifge i23_5).trans (J.ite2 ?_ ?_)
  · exact Iff.rfl
  · refine (J.r_iload i23_49 rfl).trans ?_
    refine (J.r_ldc i23_50).trans ?_
    refine (J.r_icgt i23_52).trans (J.ite2 ?_ ?_)
    · refine (J.r_ldc i23_55).trans ?_
      exact J.r_iret i23_57 rfl
    · refine (J.r_iload i23_58 rfl).trans ?_
      exact J.r_iret i23_59 rfl
/-! 24 java/util/Arrays.copyOf([Ljava/lang/Object;I)[Ljava/lang/Object; -/
theorem i24_0 : J.cd 24 0 = some (.aload 0, 1, 0, 0, 0) := by decide +kernel
theorem i24_1 : J.cd 24 1 = some (.iload 1, 2, 0, 0, 0) := by decide +kernel
theorem i24_2 : J.cd 24 2 = some (.aload 0, 3, 0, 0, 0) := by decide +kernel
theorem i24_3 : J.cd 24 3 = some (.invokevirtual 86, 6, 9001, 0, 0) := by decide +kernel
theorem i24_6 : J.cd 24 6 = some (.invokestatic 300, 9, 25, 3, 4) := by decide +kernel
theorem i24_9 : J.cd 24 9 = some (.areturn, 10, 9, 0, 0) := by decide +kernel
theorem b24_0 (d : Nat) (h : J.H) (Q : J.O → J.H → Prop) (x0 x1 : Int) : J.WP d 24 0 [J.R x0, J.I x1] [] h Q ↔ (J.cl h x0 = 214 ∨ J.cl h x0 = 311) ∧ (0 < d ∧ J.WP (d - 1) 25 0 [J.R x0, J.I x1, J.R (J.gv h (-1) 900), J.U] [] h (J.af J.WP d 24 6 9 [J.R x0, J.I x1] [] Q)) := by
  refine (J.r_aload i24_0 rfl).trans ?_
  refine (J.r_iload i24_1 rfl).trans ?_
  refine (J.r_aload i24_2 rfl).trans ?_
  refine (J.r_getc i24_3).trans (and_congr_right fun q0 => ?_)
  exact J.r_stat i24_6 (by decide) (Nat.le_of_ble_eq_true rfl) rfl rfl (Nat.le_of_ble_eq_true rfl)
theorem b24_9 (d : Nat) (h : J.H) (Q : J.O → J.H → Prop) (x0 x1 s0 : Int) : J.WP d 24 9 [J.R x0, J.I x1] [J.R s0] h Q ↔ Q (Sum.inl (some (J.R s0))) h := by
  exact J.r_aret i24_9 rfl
/-! 25 java/util/Arrays.copyOf([Ljava/lang/Object;ILjava/lang/Class;)[Ljava/lang/Object; -/
theorem i25_0 : J.cd 25 0 = some (.aload 2, 1, 0, 0, 0) := by decide +kernel
theorem i25_1 : J.cd 25 1 = some (.ldc 110, 3, 900, 1, 0) := by decide +kernel
theorem i25_3 : J.cd 25 3 = some (.if_acmp .ne 10, 6, 13, 0, 0) := by decide +kernel
theorem i25_6 : J.cd 25 6 = some (.iload 1, 7, 0, 0, 0) := by decide +kernel
theorem i25_7 : J.cd 25 7 = some (.anewarray 2, 10, 85, 0, 214) := by decide +kernel
theorem i25_10 : J.cd 25 10 = some (.goto 14, 13, 24, 0, 0) := by decide +kernel
theorem i25_13 : J.cd 25 13 = some (.aload 2, 14, 0, 0, 0) := by decide +kernel
theorem i25_24 : J.cd 25 24 = some (.astore 3, 25, 0, 0, 0) := by decide +kernel
theorem i25_25 : J.cd 25 25 = some (.aload 0, 26, 0, 0, 0) := by decide +kernel
theorem i25_26 : J.cd 25 26 = some (.iconst 0, 27, 26, 0, 0) := by decide +kernel
theorem i25_27 : J.cd 25 27 = some (.aload 3, 28, 0, 0, 0) := by decide +kernel
theorem i25_28 : J.cd 25 28 = some (.iconst 0, 29, 28, 0, 0) := by decide +kernel
theorem i25_29 : J.cd 25 29 = some (.aload 0, 30, 0, 0, 0) := by decide +kernel
theorem i25_30 : J.cd 25 30 = some (.arraylength, 31, 30, 0, 0) := by decide +kernel
theorem i25_31 : J.cd 25 31 = some (.iload 1, 32, 0, 0, 0) := by decide +kernel
theorem i25_32 : J.cd 25 32 = some (.invokestatic 304, 35, 26, 2, 2) := by decide +kernel
theorem i25_35 : J.cd 25 35 = some (.invokestatic 150, 38, 2000, 5, 0) := by decide +kernel
theorem i25_38 : J.cd 25 38 = some (.aload 3, 39, 0, 0, 0) := by decide +kernel
theorem i25_39 : J.cd 25 39 = some (.areturn, 40, 39, 0, 0) := by decide +kernel
theorem b25_0 (d : Nat) (h : J.H) (Q : J.O → J.H → Prop) (x0 x1 x2 : Int) : J.WP d 25 0 [J.R x0, J.I x1, J.R x2, J.U] [] h Q ↔ if x2 = (J.gv h (-1) 900) then ((0 ≤ x1 ∧ J.us h + 7 + x1 ≤ J.UM) ∧ ((J.ia (J.cl (J.nw h 214 x1 (7 + x1)) x0) = true) ∧ (0 < d ∧ J.WP (d - 1) 26 0 [J.I (J.ln (J.nw h 214 x1 (7 + x1)) x0), J.I x1] [] (J.nw h 214 x1 (7 + x1)) (J.af J.WP d 25 32 35 [J.R x0, J.I x1, J.R x2, J.R (J.nx h)] [J.I 0, J.R (J.nx h), J.I 0, J.R x0] Q)))) else (J.WP d 25 14 [J.R x0, J.I x1, J.R x2, J.U] [J.R x2] h Q) := by
  refine (J.r_aload i25_0 rfl).trans ?_
  refine (J.r_ldcs i25_1).trans ?_
  refine (J.r_acne i25_3).trans (J.ite2 ?_ ?_)
  · refine (J.r_iload i25_6 rfl).trans ?_
    refine (J.r_anewarray i25_7).trans (and_congr_right fun q0 => ?_)
    refine (J.r_goto i25_10).trans ?_
    refine (J.r_astore i25_24 (Nat.le_of_ble_eq_true rfl) rfl).trans ?_
    refine (J.r_aload i25_25 rfl).trans ?_
    refine (J.r_iconst i25_26).trans ?_
    refine (J.r_aload i25_27 rfl).trans ?_
    refine (J.r_iconst i25_28).trans ?_
    refine (J.r_aload i25_29 rfl).trans ?_
    refine (J.r_alen i25_30).trans (and_congr_right fun q1 => ?_)
    refine (J.r_iload i25_31 rfl).trans ?_
    exact J.r_stat i25_32 (by decide) (Nat.le_of_ble_eq_true rfl) rfl rfl (Nat.le_of_ble_eq_true rfl)
  · refine (J.r_aload i25_13 rfl).trans ?_
    exact Iff.rfl
theorem b25_35 (d : Nat) (h : J.H) (Q : J.O → J.H → Prop) (x0 x1 x2 x3 s0 s1 s2 s3 s4 : Int) : J.WP d 25 35 [J.R x0, J.I x1, J.R x2, J.R x3] [J.I s4, J.I s3, J.R s2, J.I s1, J.R s0] h Q ↔ ((0 : Int) ≤ s4 ∧ (0 : Int) ≤ s1 ∧ (0 : Int) ≤ s3 ∧ s1 + s4 ≤ J.ln h s0 ∧ s3 + s4 ≤ J.ln h s2 ∧ J.cl h s2 < 300 ∧ ((J.isA (J.cl h s0) 3 = true ∧ J.cl h s2 = 204 ∧ J.cl h s0 ≠ 203) ∨ (J.isA (J.cl h s0) 2 = true ∧ J.cl h s2 = 214 ∧ J.vld h s0 s1 s4 = true))) ∧ (Q (Sum.inl (some (J.R x3))) (J.cpy h s0 s1 s2 s3 s4)) := by
  refine (J.r_acopy i25_35).trans (and_congr_right fun q0 => ?_)
  refine (J.r_aload i25_38 rfl).trans ?_
  exact J.r_aret i25_39 rfl
/-! 26 java/lang/Math.min(II)I -/
theorem i26_0 : J.cd 26 0 = some (.iload 0, 1, 0, 0, 0) := by decide +kernel
theorem i26_1 : J.cd 26 1 = some (.iload 1, 2, 0, 0, 0) := by decide +kernel
theorem i26_2 : J.cd 26 2 = some (.if_icmp .gt 7, 5, 9, 0, 0) := by decide +kernel
theorem i26_5 : J.cd 26 5 = some (.iload 0, 6, 0, 0, 0) := by decide +kernel
theorem i26_6 : J.cd 26 6 = some (.goto 4, 9, 10, 0, 0) := by decide +kernel
theorem i26_9 : J.cd 26 9 = some (.iload 1, 10, 0, 0, 0) := by decide +kernel
theorem i26_10 : J.cd 26 10 = some (.ireturn, 11, 0, 0, 0) := by decide +kernel
theorem b26_0 (d : Nat) (h : J.H) (Q : J.O → J.H → Prop) (x0 x1 : Int) : J.WP d 26 0 [J.I x0, J.I x1] [] h Q ↔ if x0 ≤ x1 then (J.WP d 26 10 [J.I x0, J.I x1] [J.I x0] h Q) else (J.WP d 26 10 [J.I x0, J.I x1] [J.I x1] h Q) := by
  refine (J.r_iload i26_0 rfl).trans ?_
  refine (J.r_iload i26_1 rfl).trans ?_
  refine (J.r_icgt i26_2).trans (J.ite2 ?_ ?_)
  · refine (J.r_iload i26_5 rfl).trans ?_
    refine (J.r_goto i26_6).trans ?_
    exact Iff.rfl
  · refine (J.r_iload i26_9 rfl).trans ?_
    exact Iff.rfl
theorem b26_10 (d : Nat) (h : J.H) (Q : J.O → J.H → Prop) (x0 x1 s0 : Int) : J.WP d 26 10 [J.I x0, J.I x1] [J.I s0] h Q ↔ Q (Sum.inl (some (J.I s0))) h := by
  exact J.r_iret i26_10 rfl
/-! 30 java/util/ArrayList.get(I)Ljava/lang/Object; -/
theorem i30_0 : J.cd 30 0 = some (.iload 1, 1, 0, 0, 0) := by decide +kernel
theorem i30_1 : J.cd 30 1 = some (.aload 0, 2, 0, 0, 0) := by decide +kernel
theorem i30_2 : J.cd 30 2 = some (.getfield 48, 5, 20, 6, 0) := by decide +kernel
theorem i30_5 : J.cd 30 5 = some (.invokestatic 118, 8, 31, 2, 2) := by decide +kernel
theorem i30_8 : J.cd 30 8 = some (.pop, 9, 8, 0, 0) := by decide +kernel
theorem i30_9 : J.cd 30 9 = some (.aload 0, 10, 0, 0, 0) := by decide +kernel
theorem i30_10 : J.cd 30 10 = some (.iload 1, 11, 0, 0, 0) := by decide +kernel
theorem i30_11 : J.cd 30 11 = some (.invokevirtual 123, 14, 226, 1, 0) := by decide +kernel
theorem i30_14 : J.cd 30 14 = some (.areturn, 15, 14, 0, 0) := by decide +kernel
theorem b30_0 (d : Nat) (h : J.H) (Q : J.O → J.H → Prop) (x0 x1 : Int) : J.WP d 30 0 [J.R x0, J.I x1] [] h Q ↔ (J.sb (J.cl h x0) 6 = true) ∧ (0 < d ∧ J.WP (d - 1) 31 0 [J.I x1, J.I (J.gv h x0 20)] [] h (J.af J.WP d 30 5 8 [J.R x0, J.I x1] [] Q)) := by
  refine (J.r_iload i30_0 rfl).trans ?_
  refine (J.r_aload i30_1 rfl).trans ?_
  refine (J.r_getI i30_2).trans (and_congr_right fun q0 => ?_)
  exact J.r_stat i30_5 (by decide) (Nat.le_of_ble_eq_true rfl) rfl rfl (Nat.le_of_ble_eq_true rfl)
theorem b30_8 (d : Nat) (h : J.H) (Q : J.O → J.H → Prop) (x0 x1 s0 : Int) : J.WP d 30 8 [J.R x0, J.I x1] [J.I s0] h Q ↔ J.cl h x0 = 6 ∧ 0 < d ∧ J.WP (d - 1) 33 0 [J.R x0, J.I x1] [] h (J.af J.WP d 30 11 14 [J.R x0, J.I x1] [] Q) := by
  refine (J.r_popI i30_8).trans ?_
  refine (J.r_aload i30_9 rfl).trans ?_
  refine (J.r_iload i30_10 rfl).trans ?_
  exact J.r_virt1 (k2 := 33) (m := 2) 6 i30_11 rfl (by decide +kernel) (by decide) rfl (Nat.le_of_ble_eq_true rfl)
theorem b30_14 (d : Nat) (h : J.H) (Q : J.O → J.H → Prop) (x0 x1 s0 : Int) : J.WP d 30 14 [J.R x0, J.I x1] [J.R s0] h Q ↔ Q (Sum.inl (some (J.R s0))) h := by
  exact J.r_aret i30_14 rfl
/-! 31 java/util/Objects.checkIndex(II)I -/
theorem i31_0 : J.cd 31 0 = some (.iload 0, 1, 0, 0, 0) := by decide +kernel
theorem i31_1 : J.cd 31 1 = some (.iload 1, 2, 0, 0, 0) := by decide +kernel
theorem i31_2 : J.cd 31 2 = some (.aconst_null, 3, 2, 0, 0) := by decide +kernel
theorem i31_3 : J.cd 31 3 = some (.invokestatic 105, 6, 32, 3, 3) := by decide +kernel
theorem i31_6 : J.cd 31 6 = some (.ireturn, 7, 0, 0, 0) := by decide +kernel
theorem b31_0 (d : Nat) (h : J.H) (Q : J.O → J.H → Prop) (x0 x1 : Int) : J.WP d 31 0 [J.I x0, J.I x1] [] h Q ↔ 0 < d ∧ J.WP (d - 1) 32 0 [J.I x0, J.I x1, J.R 0] [] h (J.af J.WP d 31 3 6 [J.I x0, J.I x1] [] Q) := by
  refine (J.r_iload i31_0 rfl).trans ?_
  refine (J.r_iload i31_1 rfl).trans ?_
  refine (J.r_null i31_2).trans ?_
  exact J.r_stat i31_3 (by decide) (Nat.le_of_ble_eq_true rfl) rfl rfl (Nat.le_of_ble_eq_true rfl)
theorem b31_6 (d : Nat) (h : J.H) (Q : J.O → J.H → Prop) (x0 x1 s0 : Int) : J.WP d 31 6 [J.I x0, J.I x1] [J.I s0] h Q ↔ Q (Sum.inl (some (J.I s0))) h := by
  exact J.r_iret i31_6 rfl
/-! 32 jdk/internal/util/Preconditions.checkIndex(IILjava/util/function/BiFunction;)I -/
theorem i32_0 : J.cd 32 0 = some (.iload 0, 1, 0, 0, 0) := by decide +kernel
theorem i32_1 : J.cd 32 1 = some (.ifCond .lt 8, 4, 9, 0, 0) := by decide +kernel
theorem i32_4 : J.cd 32 4 = some (.iload 0, 5, 0, 0, 0) := by decide +kernel
theorem i32_5 : J.cd 32 5 = some (.iload 1, 6, 0, 0, 0) := by decide +kernel
theorem i32_6 : J.cd 32 6 = some (.if_icmp .lt 10, 9, 16, 0, 0) := by decide +kernel
theorem i32_9 : J.cd 32 9 = some (.aload 2, 10, 0, 0, 0) := by decide +kernel
theorem i32_10 : J.cd 32 10 = some (.iload 0, 11, 0, 0, 0) := by decide +kernel
theorem i32_11 : J.cd 32 11 = some (.iload 1, 12, 0, 0, 0) := by decide +kernel
theorem i32_16 : J.cd 32 16 = some (.iload 0, 17, 0, 0, 0) := by decide +kernel
theorem i32_17 : J.cd 32 17 = some (.ireturn, 18, 0, 0, 0) := by decide +kernel
theorem b32_0 (d : Nat) (h : J.H) (Q : J.O → J.H → Prop) (x0 x1 x2 : Int) : J.WP d 32 0 [J.I x0, J.I x1, J.R x2] [] h Q ↔ if x0 < 0 then (J.WP d 32 9 [J.I x0, J.I x1, J.R x2] [] h Q) else (if x0 < x1 then (Q (Sum.inl (some (J.I x0))) h) else (J.WP d 32 9 [J.I x0, J.I x1, J.R x2] [] h Q)) := by
  refine (J.r_iload i32_0 rfl).trans ?_
  refine (J.r_iflt i32_1).trans (J.ite2 ?_ ?_)
  · exact Iff.rfl
  · refine (J.r_iload i32_4 rfl).trans ?_
    refine (J.r_iload i32_5 rfl).trans ?_
    refine (J.r_iclt i32_6).trans (J.ite2 ?_ ?_)
    · refine (J.r_iload i32_16 rfl).trans ?_
      exact J.r_iret i32_17 rfl
    · exact Iff.rfl
theorem b32_9 (d : Nat) (h : J.H) (Q : J.O → J.H → Prop) (x0 x1 x2 : Int) : J.WP d 32 9 [J.I x0, J.I x1, J.R x2] [] h Q ↔ J.WP d 32 12 [J.I x0, J.I x1, J.R x2] [J.I x1, J.I x0, J.R x2] h Q := by
  refine (J.r_aload i32_9 rfl).trans ?_
  refine (J.r_iload i32_10 rfl).trans ?_
  refine (J.r_iload i32_11 rfl).trans ?_
  exact Iff.rfl
/-! 33 java/util/ArrayList.elementData(I)Ljava/lang/Object; -/
theorem i33_0 : J.cd 33 0 = some (.aload 0, 1, 0, 0, 0) := by decide +kernel
theorem i33_1 : J.cd 33 1 = some (.getfield 9, 4, 19, 6, 2) := by decide +kernel
theorem i33_4 : J.cd 33 4 = some (.iload 1, 5, 0, 0, 0) := by decide +kernel
theorem i33_5 : J.cd 33 5 = some (.aaload, 6, 5, 0, 0) := by decide +kernel
theorem i33_6 : J.cd 33 6 = some (.areturn, 7, 6, 0, 0) := by decide +kernel
theorem b33_0 (d : Nat) (h : J.H) (Q : J.O → J.H → Prop) (x0 x1 : Int) : J.WP d 33 0 [J.R x0, J.I x1] [] h Q ↔ (J.sb (J.cl h x0) 6 = true) ∧ ((J.isA (J.cl h (J.gv h x0 19)) 2 = true ∧ J.rg x1 (J.ln h (J.gv h x0 19))) ∧ (Q (Sum.inl (some (J.R (J.gv h (J.gv h x0 19) x1)))) h)) := by
  refine (J.r_aload i33_0 rfl).trans ?_
  refine (J.r_getR i33_1).trans (and_congr_right fun q0 => ?_)
  refine (J.r_iload i33_4 rfl).trans ?_
  refine (J.r_aaload i33_5).trans (and_congr_right fun q1 => ?_)
  exact J.r_aret i33_6 rfl
/-! 34 java/util/ArrayList.size()I -/
theorem i34_0 : J.cd 34 0 = some (.aload 0, 1, 0, 0, 0) := by decide +kernel
theorem i34_1 : J.cd 34 1 = some (.getfield 48, 4, 20, 6, 0) := by decide +kernel
theorem i34_4 : J.cd 34 4 = some (.ireturn, 5, 0, 0, 0) := by decide +kernel
theorem b34_0 (d : Nat) (h : J.H) (Q : J.O → J.H → Prop) (x0 : Int) : J.WP d 34 0 [J.R x0] [] h Q ↔ (J.sb (J.cl h x0) 6 = true) ∧ (Q (Sum.inl (some (J.I (J.gv h x0 20)))) h) := by
  refine (J.r_aload i34_0 rfl).trans ?_
  refine (J.r_getI i34_1).trans (and_congr_right fun q0 => ?_)
  exact J.r_iret i34_4 rfl
/-! 43 java/util/ArrayList.clear()V -/
theorem i43_0 : J.cd 43 0 = some (.aload 0, 1, 0, 0, 0) := by decide +kernel
theorem i43_1 : J.cd 43 1 = some (.dup, 2, 1, 0, 0) := by decide +kernel
theorem i43_2 : J.cd 43 2 = some (.getfield 63, 5, 21, 87, 0) := by decide +kernel
theorem i43_5 : J.cd 43 5 = some (.iconst 1, 6, 5, 0, 0) := by decide +kernel
theorem i43_6 : J.cd 43 6 = some (.iadd, 7, 6, 0, 0) := by decide +kernel
theorem i43_7 : J.cd 43 7 = some (.putfield 63, 10, 21, 87, 0) := by decide +kernel
theorem i43_10 : J.cd 43 10 = some (.aload 0, 11, 0, 0, 0) := by decide +kernel
theorem i43_11 : J.cd 43 11 = some (.getfield 9, 14, 19, 6, 2) := by decide +kernel
theorem i43_14 : J.cd 43 14 = some (.astore 1, 15, 0, 0, 0) := by decide +kernel
theorem i43_15 : J.cd 43 15 = some (.aload 0, 16, 0, 0, 0) := by decide +kernel
theorem i43_16 : J.cd 43 16 = some (.getfield 48, 19, 20, 6, 0) := by decide +kernel
theorem i43_19 : J.cd 43 19 = some (.istore 2, 20, 0, 0, 0) := by decide +kernel
theorem i43_20 : J.cd 43 20 = some (.aload 0, 21, 0, 0, 0) := by decide +kernel
theorem i43_21 : J.cd 43 21 = some (.iconst 0, 22, 21, 0, 0) := by decide +kernel
theorem i43_22 : J.cd 43 22 = some (.dup_x1, 23, 22, 0, 0) := by decide +kernel
theorem i43_23 : J.cd 43 23 = some (.putfield 48, 26, 20, 6, 0) := by decide +kernel
theorem i43_26 : J.cd 43 26 = some (.istore 3, 27, 0, 0, 0) := by decide +kernel
theorem i43_27 : J.cd 43 27 = some (.iload 3, 28, 0, 0, 0) := by decide +kernel
theorem i43_28 : J.cd 43 28 = some (.iload 2, 29, 0, 0, 0) := by decide +kernel
theorem i43_29 : J.cd 43 29 = some (.if_icmp .ge 13, 32, 42, 0, 0) := by decide +kernel
theorem i43_32 : J.cd 43 32 = some (.aload 1, 33, 0, 0, 0) := by decide +kernel
theorem i43_33 : J.cd 43 33 = some (.iload 3, 34, 0, 0, 0) := by decide +kernel
theorem i43_34 : J.cd 43 34 = some (.aconst_null, 35, 34, 0, 0) := by decide +kernel
theorem i43_35 : J.cd 43 35 = some (.aastore, 36, 35, 0, 0) := by decide +kernel
theorem i43_36 : J.cd 43 36 = some (.iinc 3 1, 39, 36, 0, 0) := by decide +kernel
theorem i43_39 : J.cd 43 39 = some (.goto (-12), 42, 27, 0, 0) := by decide +kernel
theorem i43_42 : J.cd 43 42 = some (.return_, 43, 42, 0, 0) := by decide +kernel
theorem b43_0 (d : Nat) (h : J.H) (Q : J.O → J.H → Prop) (x0 : Int) : J.WP d 43 0 [J.R x0, J.U, J.U, J.U] [] h Q ↔ (J.sb (J.cl h x0) 87 = true) ∧ ((J.sb (J.cl h x0) 87 = true ∧ J.cl h x0 < 300) ∧ ((J.sb (J.cl h x0) 6 = true) ∧ ((J.sb (J.cl h x0) 6 = true ∧ J.cl h x0 < 300) ∧ (J.WP d 43 27 [J.R x0, J.R (J.gv (J.sv h x0 21 (J.w32 ((J.gv h x0 21) + 1))) x0 19), J.I (J.gv (J.sv h x0 21 (J.w32 ((J.gv h x0 21) + 1))) x0 20), J.I 0] [] (J.sv (J.sv h x0 21 (J.w32 ((J.gv h x0 21) + 1))) x0 20 0) Q)))) := by
  refine (J.r_aload i43_0 rfl).trans ?_
  refine (J.r_dupR i43_1).trans ?_
  refine (J.r_getI i43_2).trans (and_congr_right fun q0 => ?_)
  refine (J.r_iconst i43_5).trans ?_
  refine (J.r_iadd i43_6).trans ?_
  refine (J.r_putI i43_7).trans (and_congr_right fun q1 => ?_)
  refine (J.r_aload i43_10 rfl).trans ?_
  refine (J.r_getR i43_11).trans (and_congr_right fun q2 => ?_)
  refine (J.r_astore i43_14 (Nat.le_of_ble_eq_true rfl) rfl).trans ?_
  refine (J.r_aload i43_15 rfl).trans ?_
  refine (J.r_getI i43_16).trans ((J.tru q2).trans ?_)
  refine (J.r_istore i43_19 (Nat.le_of_ble_eq_true rfl) rfl).trans ?_
  refine (J.r_aload i43_20 rfl).trans ?_
  refine (J.r_iconst i43_21).trans ?_
  refine (J.r_dupx1IR i43_22).trans ?_
  refine (J.r_putI i43_23).trans (and_congr_right fun q3 => ?_)
  refine (J.r_istore i43_26 (Nat.le_of_ble_eq_true rfl) rfl).trans ?_
  exact Iff.rfl
theorem b43_27 (d : Nat) (h : J.H) (Q : J.O → J.H → Prop) (x0 x1 x2 x3 : Int) : J.WP d 43 27 [J.R x0, J.R x1, J.I x2, J.I x3] [] h Q ↔ if x3 < x2 then ((J.cl h x1 < 300 ∧ J.isA (J.cl h x1) 2 = true ∧ J.rg x3 (J.ln h x1) ∧ J.aok h x1 0) ∧ (J.WP d 43 27 [J.R x0, J.R x1, J.I x2, J.I (J.w32 (x3 + 1))] [] (J.sv h x1 x3 0) Q)) else (Q (Sum.inl none) h) := by
  refine (J.r_iload i43_27 rfl).trans ?_
  refine (J.r_iload i43_28 rfl).trans ?_
  refine (J.r_icge i43_29).trans (J.ite2 ?_ ?_)
  · refine (J.r_aload i43_32 rfl).trans ?_
    refine (J.r_iload i43_33 rfl).trans ?_
    refine (J.r_null i43_34).trans ?_
    refine (J.r_aastore i43_35).trans (and_congr_right fun q0 => ?_)
    refine (J.r_iinc i43_36 rfl rfl).trans ?_
    refine (J.r_goto i43_39).trans ?_
    exact Iff.rfl
  · exact J.r_ret i43_42 rfl
/-! 354 java/util/ArrayList.isEmpty()Z -/
theorem i354_0 : J.cd 354 0 = some (.aload 0, 1, 0, 0, 0) := by decide +kernel
theorem i354_1 : J.cd 354 1 = some (.getfield 48, 4, 20, 6, 0) := by decide +kernel
theorem i354_4 : J.cd 354 4 = some (.ifCond .ne 7, 7, 11, 0, 0) := by decide +kernel
theorem i354_7 : J.cd 354 7 = some (.iconst 1, 8, 7, 0, 0) := by decide +kernel
theorem i354_8 : J.cd 354 8 = some (.goto 4, 11, 12, 0, 0) := by decide +kernel
theorem i354_11 : J.cd 354 11 = some (.iconst 0, 12, 11, 0, 0) := by decide +kernel
theorem i354_12 : J.cd 354 12 = some (.ireturn, 13, 0, 0, 3) := by decide +kernel
theorem b354_0 (d : Nat) (h : J.H) (Q : J.O → J.H → Prop) (x0 : Int) : J.WP d 354 0 [J.R x0] [] h Q ↔ (J.sb (J.cl h x0) 6 = true) ∧ (if (J.gv h x0 20) = 0 then (J.WP d 354 12 [J.R x0] [J.I 1] h Q) else (J.WP d 354 12 [J.R x0] [J.I 0] h Q)) := by
  refine (J.r_aload i354_0 rfl).trans ?_
  refine (J.r_getI i354_1).trans (and_congr_right fun q0 => ?_)
  refine (J.r_ifne i354_4).trans (J.ite2 ?_ ?_)
  · refine (J.r_iconst i354_7).trans ?_
    refine (J.r_goto i354_8).trans ?_
    exact Iff.rfl
  · refine (J.r_iconst i354_11).trans ?_
    exact Iff.rfl
theorem b354_12 (d : Nat) (h : J.H) (Q : J.O → J.H → Prop) (x0 s0 : Int) : J.WP d 354 12 [J.R x0] [J.I s0] h Q ↔ (J.zo s0) ∧ Q (Sum.inl (some (J.I s0))) h := by
  exact J.r_iretZ i354_12 rfl
/-! 360 java/util/ArrayList.contains(Ljava/lang/Object;)Z -/
theorem i360_0 : J.cd 360 0 = some (.aload 0, 1, 0, 0, 0) := by decide +kernel
theorem i360_1 : J.cd 360 1 = some (.aload 1, 2, 0, 0, 0) := by decide +kernel
theorem i360_2 : J.cd 360 2 = some (.invokevirtual 85, 5, 227, 1, 0) := by decide +kernel
theorem i360_5 : J.cd 360 5 = some (.ifCond .lt 7, 8, 12, 0, 0) := by decide +kernel
theorem i360_8 : J.cd 360 8 = some (.iconst 1, 9, 8, 0, 0) := by decide +kernel
theorem i360_9 : J.cd 360 9 = some (.goto 4, 12, 13, 0, 0) := by decide +kernel
theorem i360_12 : J.cd 360 12 = some (.iconst 0, 13, 12, 0, 0) := by decide +kernel
theorem i360_13 : J.cd 360 13 = some (.ireturn, 14, 0, 0, 3) := by decide +kernel
theorem b360_0 (d : Nat) (h : J.H) (Q : J.O → J.H → Prop) (x0 x1 : Int) : J.WP d 360 0 [J.R x0, J.R x1] [] h Q ↔ J.cl h x0 = 6 ∧ 0 < d ∧ J.WP (d - 1) 361 0 [J.R x0, J.R x1] [] h (J.af J.WP d 360 2 5 [J.R x0, J.R x1] [] Q) := by
  refine (J.r_aload i360_0 rfl).trans ?_
  refine (J.r_aload i360_1 rfl).trans ?_
  exact J.r_virt1 (k2 := 361) (m := 2) 6 i360_2 rfl (by decide +kernel) (by decide) rfl (Nat.le_of_ble_eq_true rfl)
theorem b360_5 (d : Nat) (h : J.H) (Q : J.O → J.H → Prop) (x0 x1 s0 : Int) : J.WP d 360 5 [J.R x0, J.R x1] [J.I s0] h Q ↔ if s0 < 0 then (J.WP d 360 13 [J.R x0, J.R x1] [J.I 0] h Q) else (J.WP d 360 13 [J.R x0, J.R x1] [J.I 1] h Q) := by
  refine (J.r_iflt i360_5).trans (J.ite2 ?_ ?_)
  · refine (J.r_iconst i360_12).trans ?_
    exact Iff.rfl
  · refine (J.r_iconst i360_8).trans ?_
    refine (J.r_goto i360_9).trans ?_
    exact Iff.rfl
theorem b360_13 (d : Nat) (h : J.H) (Q : J.O → J.H → Prop) (x0 x1 s0 : Int) : J.WP d 360 13 [J.R x0, J.R x1] [J.I s0] h Q ↔ (J.zo s0) ∧ Q (Sum.inl (some (J.I s0))) h := by
  exact J.r_iretZ i360_13 rfl
/-! 361 java/util/ArrayList.indexOf(Ljava/lang/Object;)I -/
theorem i361_0 : J.cd 361 0 = some (.aload 0, 1, 0, 0, 0) := by decide +kernel
theorem i361_1 : J.cd 361 1 = some (.aload 1, 2, 0, 0, 0) := by decide +kernel
theorem i361_2 : J.cd 361 2 = some (.iconst 0, 3, 2, 0, 0) := by decide +kernel
theorem i361_3 : J.cd 361 3 = some (.aload 0, 4, 0, 0, 0) := by decide +kernel
theorem i361_4 : J.cd 361 4 = some (.getfield 48, 7, 20, 6, 0) := by decide +kernel
theorem i361_7 : J.cd 361 7 = some (.invokevirtual 89, 10, 228, 3, 0) := by decide +kernel
theorem i361_10 : J.cd 361 10 = some (.ireturn, 11, 0, 0, 0) := by decide +kernel
theorem b361_0 (d : Nat) (h : J.H) (Q : J.O → J.H → Prop) (x0 x1 : Int) : J.WP d 361 0 [J.R x0, J.R x1] [] h Q ↔ (J.sb (J.cl h x0) 6 = true) ∧ (J.cl h x0 = 6 ∧ 0 < d ∧ J.WP (d - 1) 362 0 [J.R x0, J.R x1, J.I 0, J.I (J.gv h x0 20), J.U, J.U] [] h (J.af J.WP d 361 7 10 [J.R x0, J.R x1] [] Q)) := by
  refine (J.r_aload i361_0 rfl).trans ?_
  refine (J.r_aload i361_1 rfl).trans ?_
  refine (J.r_iconst i361_2).trans ?_
  refine (J.r_aload i361_3 rfl).trans ?_
  refine (J.r_getI i361_4).trans (and_congr_right fun q0 => ?_)
  exact J.r_virt1 (k2 := 362) (m := 6) 6 i361_7 rfl (by decide +kernel) (by decide) rfl (Nat.le_of_ble_eq_true rfl)
theorem b361_10 (d : Nat) (h : J.H) (Q : J.O → J.H → Prop) (x0 x1 s0 : Int) : J.WP d 361 10 [J.R x0, J.R x1] [J.I s0] h Q ↔ Q (Sum.inl (some (J.I s0))) h := by
  exact J.r_iret i361_10 rfl
/-! 362 java/util/ArrayList.indexOfRange(Ljava/lang/Object;II)I -/
theorem i362_0 : J.cd 362 0 = some (.aload 0, 1, 0, 0, 0) := by decide +kernel
theorem i362_1 : J.cd 362 1 = some (.getfield 9, 4, 19, 6, 2) := by decide +kernel
theorem i362_4 : J.cd 362 4 = some (.astore 4, 6, 4, 0, 0) := by decide +kernel
theorem i362_6 : J.cd 362 6 = some (.aload 1, 7, 0, 0, 0) := by decide +kernel
theorem i362_7 : J.cd 362 7 = some (.ifnonnull 32, 10, 39, 0, 0) := by decide +kernel
theorem i362_10 : J.cd 362 10 = some (.iload 2, 11, 0, 0, 0) := by decide +kernel
theorem i362_11 : J.cd 362 11 = some (.istore 5, 13, 11, 0, 0) := by decide +kernel
theorem i362_13 : J.cd 362 13 = some (.iload 5, 15, 13, 0, 0) := by decide +kernel
theorem i362_15 : J.cd 362 15 = some (.iload 3, 16, 0, 0, 0) := by decide +kernel
theorem i362_16 : J.cd 362 16 = some (.if_icmp .ge 20, 19, 36, 0, 0) := by decide +kernel
theorem i362_19 : J.cd 362 19 = some (.aload 4, 21, 19, 0, 0) := by decide +kernel
theorem i362_21 : J.cd 362 21 = some (.iload 5, 23, 21, 0, 0) := by decide +kernel
theorem i362_23 : J.cd 362 23 = some (.aaload, 24, 23, 0, 0) := by decide +kernel
theorem i362_24 : J.cd 362 24 = some (.ifnonnull 6, 27, 30, 0, 0) := by decide +kernel
theorem i362_27 : J.cd 362 27 = some (.iload 5, 29, 27, 0, 0) := by decide +kernel
theorem i362_29 : J.cd 362 29 = some (.ireturn, 30, 0, 0, 0) := by decide +kernel
theorem i362_30 : J.cd 362 30 = some (.iinc 5 1, 33, 30, 0, 0) := by decide +kernel
theorem i362_33 : J.cd 362 33 = some (.goto (-20), 36, 13, 0, 0) := by decide +kernel
theorem i362_36 : J.cd 362 36 = some (.goto 33, 39, 69, 0, 0) := by decide +kernel
theorem i362_39 : J.cd 362 39 = some (.iload 2, 40, 0, 0, 0) := by decide +kernel
theorem i362_40 : J.cd 362 40 = some (.istore 5, 42, 40, 0, 0) := by decide +kernel
theorem i362_42 : J.cd 362 42 = some (.iload 5, 44, 42, 0, 0) := by decide +kernel
theorem i362_44 : J.cd 362 44 = some (.iload 3, 45, 0, 0, 0) := by decide +kernel
theorem i362_45 : J.cd 362 45 = some (.if_icmp .ge 24, 48, 69, 0, 0) := by decide +kernel
theorem i362_48 : J.cd 362 48 = some (.aload 1, 49, 0, 0, 0) := by decide +kernel
theorem i362_49 : J.cd 362 49 = some (.aload 4, 51, 49, 0, 0) := by decide +kernel
theorem i362_51 : J.cd 362 51 = some (.iload 5, 53, 51, 0, 0) := by decide +kernel
theorem i362_53 : J.cd 362 53 = some (.aaload, 54, 53, 0, 0) := by decide +kernel
theorem i362_54 : J.cd 362 54 = some (.invokevirtual 93, 57, 229, 1, 0) := by decide +kernel
theorem i362_57 : J.cd 362 57 = some (.ifCond .eq 6, 60, 63, 0, 0) := by decide +kernel
theorem i362_60 : J.cd 362 60 = some (.iload 5, 62, 60, 0, 0) := by decide +kernel
theorem i362_62 : J.cd 362 62 = some (.ireturn, 63, 0, 0, 0) := by decide +kernel
theorem i362_63 : J.cd 362 63 = some (.iinc 5 1, 66, 63, 0, 0) := by decide +kernel
theorem i362_66 : J.cd 362 66 = some (.goto (-24), 69, 42, 0, 0) := by decide +kernel
theorem i362_69 : J.cd 362 69 = some (.iconst (-1), 70, 69, 0, 0) := by decide +kernel
theorem i362_70 : J.cd 362 70 = some (.ireturn, 71, 0, 0, 0) := by decide +kernel
theorem b362_0 (d : Nat) (h : J.H) (Q : J.O → J.H → Prop) (x0 x1 x2 x3 : Int) : J.WP d 362 0 [J.R x0, J.R x1, J.I x2, J.I x3, J.U, J.U] [] h Q ↔ (J.sb (J.cl h x0) 6 = true) ∧ (if x1 = 0 then (J.WP d 362 13 [J.R x0, J.R x1, J.I x2, J.I x3, J.R (J.gv h x0 19), J.I x2] [] h Q) else (J.WP d 362 42 [J.R x0, J.R x1, J.I x2, J.I x3, J.R (J.gv h x0 19), J.I x2] [] h Q)) := by
  refine (J.r_aload i362_0 rfl).trans ?_
  refine (J.r_getR i362_1).trans (and_congr_right fun q0 => ?_)
  refine (J.r_astore i362_4 (Nat.le_of_ble_eq_true rfl) rfl).trans ?_
  refine (J.r_aload i362_6 rfl).trans ?_
  refine (J.r_ifnonnull i362_7).trans (J.ite2 ?_ ?_)
  · refine (J.r_iload i362_10 rfl).trans ?_
    refine (J.r_istore i362_11 (Nat.le_of_ble_eq_true rfl) rfl).trans ?_
    exact Iff.rfl
  · refine (J.r_iload i362_39 rfl).trans ?_
    refine (J.r_istore i362_40 (Nat.le_of_ble_eq_true rfl) rfl).trans ?_
    exact Iff.rfl
theorem b362_13 (d : Nat) (h : J.H) (Q : J.O → J.H → Prop) (x0 x1 x2 x3 x4 x5 : Int) : J.WP d 362 13 [J.R x0, J.R x1, J.I x2, J.I x3, J.R x4, J.I x5] [] h Q ↔ if x5 < x3 then ((J.isA (J.cl h x4) 2 = true ∧ J.rg x5 (J.ln h x4)) ∧ (if (J.gv h x4 x5) = 0 then (Q (Sum.inl (some (J.I x5))) h) else (J.WP d 362 13 [J.R x0, J.R x1, J.I x2, J.I x3, J.R x4, J.I (J.w32 (x5 + 1))] [] h Q))) else (J.WP d 362 69 [J.R x0, J.R x1, J.I x2, J.I x3, J.R x4, J.I x5] [] h Q) := by
  refine (J.r_iload i362_13 rfl).trans ?_
  refine (J.r_iload i362_15 rfl).trans ?_
  refine (J.r_icge i362_16).trans (J.ite2 ?_ ?_)
  · refine (J.r_aload i362_19 rfl).trans ?_
    refine (J.r_iload i362_21 rfl).trans ?_
    refine (J.r_aaload i362_23).trans (and_congr_right fun q0 => ?_)
    refine (J.r_ifnonnull i362_24).trans (J.ite2 ?_ ?_)
    · refine (J.r_iload i362_27 rfl).trans ?_
      exact J.r_iret i362_29 rfl
    · refine (J.r_iinc i362_30 rfl rfl).trans ?_
      refine (J.r_goto i362_33).trans ?_
      exact Iff.rfl
  · refine (J.r_goto i362_36).trans ?_
    exact Iff.rfl
theorem b362_42 (d : Nat) (h : J.H) (Q : J.O → J.H → Prop) (x0 x1 x2 x3 x4 x5 : Int) : J.WP d 362 42 [J.R x0, J.R x1, J.I x2, J.I x3, J.R x4, J.I x5] [] h Q ↔ if x5 < x3 then ((J.isA (J.cl h x4) 2 = true ∧ J.rg x5 (J.ln h x4)) ∧ (J.WP d 362 54 [J.R x0, J.R x1, J.I x2, J.I x3, J.R x4, J.I x5] [J.R (J.gv h x4 x5), J.R x1] h Q)) else (J.WP d 362 69 [J.R x0, J.R x1, J.I x2, J.I x3, J.R x4, J.I x5] [] h Q) := by
  refine (J.r_iload i362_42 rfl).trans ?_
  refine (J.r_iload i362_44 rfl).trans ?_
  refine (J.r_icge i362_45).trans (J.ite2 ?_ ?_)
  · refine (J.r_aload i362_48 rfl).trans ?_
    refine (J.r_aload i362_49 rfl).trans ?_
    refine (J.r_iload i362_51 rfl).trans ?_
    refine (J.r_aaload i362_53).trans (and_congr_right fun q0 => ?_)
    exact Iff.rfl
  · exact Iff.rfl
theorem b362_54_c1 (d : Nat) (h : J.H) (Q : J.O → J.H → Prop) (x0 x1 x2 x3 x4 x5 s0 s1 : Int) (hq : J.cl h s0 = 1) : J.WP d 362 54 [J.R x0, J.R x1, J.I x2, J.I x3, J.R x4, J.I x5] [J.R s1, J.R s0] h Q ↔ 0 < d ∧ J.WP (d - 1) 364 0 [J.R s0, J.R s1] [] h (J.af J.WP d 362 54 57 [J.R x0, J.R x1, J.I x2, J.I x3, J.R x4, J.I x5] [] Q) := by
  exact J.r_virt (k2 := 364) (m := 2) i362_54 rfl 1 hq (by decide +kernel) (by decide) rfl (Nat.le_of_ble_eq_true rfl)
theorem b362_54_c2 (d : Nat) (h : J.H) (Q : J.O → J.H → Prop) (x0 x1 x2 x3 x4 x5 s0 s1 : Int) (hq : J.cl h s0 = 2) : J.WP d 362 54 [J.R x0, J.R x1, J.I x2, J.I x3, J.R x4, J.I x5] [J.R s1, J.R s0] h Q ↔ 0 < d ∧ J.WP (d - 1) 364 0 [J.R s0, J.R s1] [] h (J.af J.WP d 362 54 57 [J.R x0, J.R x1, J.I x2, J.I x3, J.R x4, J.I x5] [] Q) := by
  exact J.r_virt (k2 := 364) (m := 2) i362_54 rfl 2 hq (by decide +kernel) (by decide) rfl (Nat.le_of_ble_eq_true rfl)
theorem b362_54_c3 (d : Nat) (h : J.H) (Q : J.O → J.H → Prop) (x0 x1 x2 x3 x4 x5 s0 s1 : Int) (hq : J.cl h s0 = 3) : J.WP d 362 54 [J.R x0, J.R x1, J.I x2, J.I x3, J.R x4, J.I x5] [J.R s1, J.R s0] h Q ↔ 0 < d ∧ J.WP (d - 1) 364 0 [J.R s0, J.R s1] [] h (J.af J.WP d 362 54 57 [J.R x0, J.R x1, J.I x2, J.I x3, J.R x4, J.I x5] [] Q) := by
  exact J.r_virt (k2 := 364) (m := 2) i362_54 rfl 3 hq (by decide +kernel) (by decide) rfl (Nat.le_of_ble_eq_true rfl)
theorem b362_54_c4 (d : Nat) (h : J.H) (Q : J.O → J.H → Prop) (x0 x1 x2 x3 x4 x5 s0 s1 : Int) (hq : J.cl h s0 = 4) : J.WP d 362 54 [J.R x0, J.R x1, J.I x2, J.I x3, J.R x4, J.I x5] [J.R s1, J.R s0] h Q ↔ 0 < d ∧ J.WP (d - 1) 364 0 [J.R s0, J.R s1] [] h (J.af J.WP d 362 54 57 [J.R x0, J.R x1, J.I x2, J.I x3, J.R x4, J.I x5] [] Q) := by
  exact J.r_virt (k2 := 364) (m := 2) i362_54 rfl 4 hq (by decide +kernel) (by decide) rfl (Nat.le_of_ble_eq_true rfl)
theorem b362_54_c5 (d : Nat) (h : J.H) (Q : J.O → J.H → Prop) (x0 x1 x2 x3 x4 x5 s0 s1 : Int) (hq : J.cl h s0 = 5) : J.WP d 362 54 [J.R x0, J.R x1, J.I x2, J.I x3, J.R x4, J.I x5] [J.R s1, J.R s0] h Q ↔ 0 < d ∧ J.WP (d - 1) 364 0 [J.R s0, J.R s1] [] h (J.af J.WP d 362 54 57 [J.R x0, J.R x1, J.I x2, J.I x3, J.R x4, J.I x5] [] Q) := by
  exact J.r_virt (k2 := 364) (m := 2) i362_54 rfl 5 hq (by decide +kernel) (by decide) rfl (Nat.le_of_ble_eq_true rfl)
theorem b362_54_c7 (d : Nat) (h : J.H) (Q : J.O → J.H → Prop) (x0 x1 x2 x3 x4 x5 s0 s1 : Int) (hq : J.cl h s0 = 7) : J.WP d 362 54 [J.R x0, J.R x1, J.I x2, J.I x3, J.R x4, J.I x5] [J.R s1, J.R s0] h Q ↔ 0 < d ∧ J.WP (d - 1) 364 0 [J.R s0, J.R s1] [] h (J.af J.WP d 362 54 57 [J.R x0, J.R x1, J.I x2, J.I x3, J.R x4, J.I x5] [] Q) := by
  exact J.r_virt (k2 := 364) (m := 2) i362_54 rfl 7 hq (by decide +kernel) (by decide) rfl (Nat.le_of_ble_eq_true rfl)
theorem b362_54_c8 (d : Nat) (h : J.H) (Q : J.O → J.H → Prop) (x0 x1 x2 x3 x4 x5 s0 s1 : Int) (hq : J.cl h s0 = 8) : J.WP d 362 54 [J.R x0, J.R x1, J.I x2, J.I x3, J.R x4, J.I x5] [J.R s1, J.R s0] h Q ↔ 0 < d ∧ J.WP (d - 1) 364 0 [J.R s0, J.R s1] [] h (J.af J.WP d 362 54 57 [J.R x0, J.R x1, J.I x2, J.I x3, J.R x4, J.I x5] [] Q) := by
  exact J.r_virt (k2 := 364) (m := 2) i362_54 rfl 8 hq (by decide +kernel) (by decide) rfl (Nat.le_of_ble_eq_true rfl)
theorem b362_54_c9 (d : Nat) (h : J.H) (Q : J.O → J.H → Prop) (x0 x1 x2 x3 x4 x5 s0 s1 : Int) (hq : J.cl h s0 = 9) : J.WP d 362 54 [J.R x0, J.R x1, J.I x2, J.I x3, J.R x4, J.I x5] [J.R s1, J.R s0] h Q ↔ 0 < d ∧ J.WP (d - 1) 364 0 [J.R s0, J.R s1] [] h (J.af J.WP d 362 54 57 [J.R x0, J.R x1, J.I x2, J.I x3, J.R x4, J.I x5] [] Q) := by
  exact J.r_virt (k2 := 364) (m := 2) i362_54 rfl 9 hq (by decide +kernel) (by decide) rfl (Nat.le_of_ble_eq_true rfl)
theorem b362_54_c10 (d : Nat) (h : J.H) (Q : J.O → J.H → Prop) (x0 x1 x2 x3 x4 x5 s0 s1 : Int) (hq : J.cl h s0 = 10) : J.WP d 362 54 [J.R x0, J.R x1, J.I x2, J.I x3, J.R x4, J.I x5] [J.R s1, J.R s0] h Q ↔ 0 < d ∧ J.WP (d - 1) 364 0 [J.R s0, J.R s1] [] h (J.af J.WP d 362 54 57 [J.R x0, J.R x1, J.I x2, J.I x3, J.R x4, J.I x5] [] Q) := by
  exact J.r_virt (k2 := 364) (m := 2) i362_54 rfl 10 hq (by decide +kernel) (by decide) rfl (Nat.le_of_ble_eq_true rfl)
theorem b362_54_c11 (d : Nat) (h : J.H) (Q : J.O → J.H → Prop) (x0 x1 x2 x3 x4 x5 s0 s1 : Int) (hq : J.cl h s0 = 11) : J.WP d 362 54 [J.R x0, J.R x1, J.I x2, J.I x3, J.R x4, J.I x5] [J.R s1, J.R s0] h Q ↔ 0 < d ∧ J.WP (d - 1) 364 0 [J.R s0, J.R s1] [] h (J.af J.WP d 362 54 57 [J.R x0, J.R x1, J.I x2, J.I x3, J.R x4, J.I x5] [] Q) := by
  exact J.r_virt (k2 := 364) (m := 2) i362_54 rfl 11 hq (by decide +kernel) (by decide) rfl (Nat.le_of_ble_eq_true rfl)
theorem b362_54_c12 (d : Nat) (h : J.H) (Q : J.O → J.H → Prop) (x0 x1 x2 x3 x4 x5 s0 s1 : Int) (hq : J.cl h s0 = 12) : J.WP d 362 54 [J.R x0, J.R x1, J.I x2, J.I x3, J.R x4, J.I x5] [J.R s1, J.R s0] h Q ↔ 0 < d ∧ J.WP (d - 1) 364 0 [J.R s0, J.R s1] [] h (J.af J.WP d 362 54 57 [J.R x0, J.R x1, J.I x2, J.I x3, J.R x4, J.I x5] [] Q) := by
  exact J.r_virt (k2 := 364) (m := 2) i362_54 rfl 12 hq (by decide +kernel) (by decide) rfl (Nat.le_of_ble_eq_true rfl)
theorem b362_54_c13 (d : Nat) (h : J.H) (Q : J.O → J.H → Prop) (x0 x1 x2 x3 x4 x5 s0 s1 : Int) (hq : J.cl h s0 = 13) : J.WP d 362 54 [J.R x0, J.R x1, J.I x2, J.I x3, J.R x4, J.I x5] [J.R s1, J.R s0] h Q ↔ 0 < d ∧ J.WP (d - 1) 364 0 [J.R s0, J.R s1] [] h (J.af J.WP d 362 54 57 [J.R x0, J.R x1, J.I x2, J.I x3, J.R x4, J.I x5] [] Q) := by
  exact J.r_virt (k2 := 364) (m := 2) i362_54 rfl 13 hq (by decide +kernel) (by decide) rfl (Nat.le_of_ble_eq_true rfl)
theorem b362_54_c14 (d : Nat) (h : J.H) (Q : J.O → J.H → Prop) (x0 x1 x2 x3 x4 x5 s0 s1 : Int) (hq : J.cl h s0 = 14) : J.WP d 362 54 [J.R x0, J.R x1, J.I x2, J.I x3, J.R x4, J.I x5] [J.R s1, J.R s0] h Q ↔ 0 < d ∧ J.WP (d - 1) 364 0 [J.R s0, J.R s1] [] h (J.af J.WP d 362 54 57 [J.R x0, J.R x1, J.I x2, J.I x3, J.R x4, J.I x5] [] Q) := by
  exact J.r_virt (k2 := 364) (m := 2) i362_54 rfl 14 hq (by decide +kernel) (by decide) rfl (Nat.le_of_ble_eq_true rfl)
theorem b362_54_c15 (d : Nat) (h : J.H) (Q : J.O → J.H → Prop) (x0 x1 x2 x3 x4 x5 s0 s1 : Int) (hq : J.cl h s0 = 15) : J.WP d 362 54 [J.R x0, J.R x1, J.I x2, J.I x3, J.R x4, J.I x5] [J.R s1, J.R s0] h Q ↔ 0 < d ∧ J.WP (d - 1) 364 0 [J.R s0, J.R s1] [] h (J.af J.WP d 362 54 57 [J.R x0, J.R x1, J.I x2, J.I x3, J.R x4, J.I x5] [] Q) := by
  exact J.r_virt (k2 := 364) (m := 2) i362_54 rfl 15 hq (by decide +kernel) (by decide) rfl (Nat.le_of_ble_eq_true rfl)
theorem b362_54_c16 (d : Nat) (h : J.H) (Q : J.O → J.H → Prop) (x0 x1 x2 x3 x4 x5 s0 s1 : Int) (hq : J.cl h s0 = 16) : J.WP d 362 54 [J.R x0, J.R x1, J.I x2, J.I x3, J.R x4, J.I x5] [J.R s1, J.R s0] h Q ↔ 0 < d ∧ J.WP (d - 1) 364 0 [J.R s0, J.R s1] [] h (J.af J.WP d 362 54 57 [J.R x0, J.R x1, J.I x2, J.I x3, J.R x4, J.I x5] [] Q) := by
  exact J.r_virt (k2 := 364) (m := 2) i362_54 rfl 16 hq (by decide +kernel) (by decide) rfl (Nat.le_of_ble_eq_true rfl)
theorem b362_54_c17 (d : Nat) (h : J.H) (Q : J.O → J.H → Prop) (x0 x1 x2 x3 x4 x5 s0 s1 : Int) (hq : J.cl h s0 = 17) : J.WP d 362 54 [J.R x0, J.R x1, J.I x2, J.I x3, J.R x4, J.I x5] [J.R s1, J.R s0] h Q ↔ 0 < d ∧ J.WP (d - 1) 364 0 [J.R s0, J.R s1] [] h (J.af J.WP d 362 54 57 [J.R x0, J.R x1, J.I x2, J.I x3, J.R x4, J.I x5] [] Q) := by
  exact J.r_virt (k2 := 364) (m := 2) i362_54 rfl 17 hq (by decide +kernel) (by decide) rfl (Nat.le_of_ble_eq_true rfl)
theorem b362_54_c18 (d : Nat) (h : J.H) (Q : J.O → J.H → Prop) (x0 x1 x2 x3 x4 x5 s0 s1 : Int) (hq : J.cl h s0 = 18) : J.WP d 362 54 [J.R x0, J.R x1, J.I x2, J.I x3, J.R x4, J.I x5] [J.R s1, J.R s0] h Q ↔ 0 < d ∧ J.WP (d - 1) 364 0 [J.R s0, J.R s1] [] h (J.af J.WP d 362 54 57 [J.R x0, J.R x1, J.I x2, J.I x3, J.R x4, J.I x5] [] Q) := by
  exact J.r_virt (k2 := 364) (m := 2) i362_54 rfl 18 hq (by decide +kernel) (by decide) rfl (Nat.le_of_ble_eq_true rfl)
theorem b362_54_c19 (d : Nat) (h : J.H) (Q : J.O → J.H → Prop) (x0 x1 x2 x3 x4 x5 s0 s1 : Int) (hq : J.cl h s0 = 19) : J.WP d 362 54 [J.R x0, J.R x1, J.I x2, J.I x3, J.R x4, J.I x5] [J.R s1, J.R s0] h Q ↔ 0 < d ∧ J.WP (d - 1) 364 0 [J.R s0, J.R s1] [] h (J.af J.WP d 362 54 57 [J.R x0, J.R x1, J.I x2, J.I x3, J.R x4, J.I x5] [] Q) := by
  exact J.r_virt (k2 := 364) (m := 2) i362_54 rfl 19 hq (by decide +kernel) (by decide) rfl (Nat.le_of_ble_eq_true rfl)
theorem b362_54_c20 (d : Nat) (h : J.H) (Q : J.O → J.H → Prop) (x0 x1 x2 x3 x4 x5 s0 s1 : Int) (hq : J.cl h s0 = 20) : J.WP d 362 54 [J.R x0, J.R x1, J.I x2, J.I x3, J.R x4, J.I x5] [J.R s1, J.R s0] h Q ↔ 0 < d ∧ J.WP (d - 1) 364 0 [J.R s0, J.R s1] [] h (J.af J.WP d 362 54 57 [J.R x0, J.R x1, J.I x2, J.I x3, J.R x4, J.I x5] [] Q) := by
  exact J.r_virt (k2 := 364) (m := 2) i362_54 rfl 20 hq (by decide +kernel) (by decide) rfl (Nat.le_of_ble_eq_true rfl)
theorem b362_54_c21 (d : Nat) (h : J.H) (Q : J.O → J.H → Prop) (x0 x1 x2 x3 x4 x5 s0 s1 : Int) (hq : J.cl h s0 = 21) : J.WP d 362 54 [J.R x0, J.R x1, J.I x2, J.I x3, J.R x4, J.I x5] [J.R s1, J.R s0] h Q ↔ 0 < d ∧ J.WP (d - 1) 364 0 [J.R s0, J.R s1] [] h (J.af J.WP d 362 54 57 [J.R x0, J.R x1, J.I x2, J.I x3, J.R x4, J.I x5] [] Q) := by
  exact J.r_virt (k2 := 364) (m := 2) i362_54 rfl 21 hq (by decide +kernel) (by decide) rfl (Nat.le_of_ble_eq_true rfl)
theorem b362_54_c23 (d : Nat) (h : J.H) (Q : J.O → J.H → Prop) (x0 x1 x2 x3 x4 x5 s0 s1 : Int) (hq : J.cl h s0 = 23) : J.WP d 362 54 [J.R x0, J.R x1, J.I x2, J.I x3, J.R x4, J.I x5] [J.R s1, J.R s0] h Q ↔ 0 < d ∧ J.WP (d - 1) 142 0 [J.R s0, J.R s1, J.U] [] h (J.af J.WP d 362 54 57 [J.R x0, J.R x1, J.I x2, J.I x3, J.R x4, J.I x5] [] Q) := by
  exact J.r_virt (k2 := 142) (m := 3) i362_54 rfl 23 hq (by decide +kernel) (by decide) rfl (Nat.le_of_ble_eq_true rfl)
theorem b362_54_c24 (d : Nat) (h : J.H) (Q : J.O → J.H → Prop) (x0 x1 x2 x3 x4 x5 s0 s1 : Int) (hq : J.cl h s0 = 24) : J.WP d 362 54 [J.R x0, J.R x1, J.I x2, J.I x3, J.R x4, J.I x5] [J.R s1, J.R s0] h Q ↔ 0 < d ∧ J.WP (d - 1) 364 0 [J.R s0, J.R s1] [] h (J.af J.WP d 362 54 57 [J.R x0, J.R x1, J.I x2, J.I x3, J.R x4, J.I x5] [] Q) := by
  exact J.r_virt (k2 := 364) (m := 2) i362_54 rfl 24 hq (by decide +kernel) (by decide) rfl (Nat.le_of_ble_eq_true rfl)
theorem b362_54_c25 (d : Nat) (h : J.H) (Q : J.O → J.H → Prop) (x0 x1 x2 x3 x4 x5 s0 s1 : Int) (hq : J.cl h s0 = 25) : J.WP d 362 54 [J.R x0, J.R x1, J.I x2, J.I x3, J.R x4, J.I x5] [J.R s1, J.R s0] h Q ↔ 0 < d ∧ J.WP (d - 1) 364 0 [J.R s0, J.R s1] [] h (J.af J.WP d 362 54 57 [J.R x0, J.R x1, J.I x2, J.I x3, J.R x4, J.I x5] [] Q) := by
  exact J.r_virt (k2 := 364) (m := 2) i362_54 rfl 25 hq (by decide +kernel) (by decide) rfl (Nat.le_of_ble_eq_true rfl)
theorem b362_54_c26 (d : Nat) (h : J.H) (Q : J.O → J.H → Prop) (x0 x1 x2 x3 x4 x5 s0 s1 : Int) (hq : J.cl h s0 = 26) : J.WP d 362 54 [J.R x0, J.R x1, J.I x2, J.I x3, J.R x4, J.I x5] [J.R s1, J.R s0] h Q ↔ 0 < d ∧ J.WP (d - 1) 364 0 [J.R s0, J.R s1] [] h (J.af J.WP d 362 54 57 [J.R x0, J.R x1, J.I x2, J.I x3, J.R x4, J.I x5] [] Q) := by
  exact J.r_virt (k2 := 364) (m := 2) i362_54 rfl 26 hq (by decide +kernel) (by decide) rfl (Nat.le_of_ble_eq_true rfl)
theorem b362_54_c27 (d : Nat) (h : J.H) (Q : J.O → J.H → Prop) (x0 x1 x2 x3 x4 x5 s0 s1 : Int) (hq : J.cl h s0 = 27) : J.WP d 362 54 [J.R x0, J.R x1, J.I x2, J.I x3, J.R x4, J.I x5] [J.R s1, J.R s0] h Q ↔ 0 < d ∧ J.WP (d - 1) 364 0 [J.R s0, J.R s1] [] h (J.af J.WP d 362 54 57 [J.R x0, J.R x1, J.I x2, J.I x3, J.R x4, J.I x5] [] Q) := by
  exact J.r_virt (k2 := 364) (m := 2) i362_54 rfl 27 hq (by decide +kernel) (by decide) rfl (Nat.le_of_ble_eq_true rfl)
theorem b362_54_c28 (d : Nat) (h : J.H) (Q : J.O → J.H → Prop) (x0 x1 x2 x3 x4 x5 s0 s1 : Int) (hq : J.cl h s0 = 28) : J.WP d 362 54 [J.R x0, J.R x1, J.I x2, J.I x3, J.R x4, J.I x5] [J.R s1, J.R s0] h Q ↔ 0 < d ∧ J.WP (d - 1) 364 0 [J.R s0, J.R s1] [] h (J.af J.WP d 362 54 57 [J.R x0, J.R x1, J.I x2, J.I x3, J.R x4, J.I x5] [] Q) := by
  exact J.r_virt (k2 := 364) (m := 2) i362_54 rfl 28 hq (by decide +kernel) (by decide) rfl (Nat.le_of_ble_eq_true rfl)
theorem b362_54_c29 (d : Nat) (h : J.H) (Q : J.O → J.H → Prop) (x0 x1 x2 x3 x4 x5 s0 s1 : Int) (hq : J.cl h s0 = 29) : J.WP d 362 54 [J.R x0, J.R x1, J.I x2, J.I x3, J.R x4, J.I x5] [J.R s1, J.R s0] h Q ↔ 0 < d ∧ J.WP (d - 1) 364 0 [J.R s0, J.R s1] [] h (J.af J.WP d 362 54 57 [J.R x0, J.R x1, J.I x2, J.I x3, J.R x4, J.I x5] [] Q) := by
  exact J.r_virt (k2 := 364) (m := 2) i362_54 rfl 29 hq (by decide +kernel) (by decide) rfl (Nat.le_of_ble_eq_true rfl)
theorem b362_54_c30 (d : Nat) (h : J.H) (Q : J.O → J.H → Prop) (x0 x1 x2 x3 x4 x5 s0 s1 : Int) (hq : J.cl h s0 = 30) : J.WP d 362 54 [J.R x0, J.R x1, J.I x2, J.I x3, J.R x4, J.I x5] [J.R s1, J.R s0] h Q ↔ 0 < d ∧ J.WP (d - 1) 364 0 [J.R s0, J.R s1] [] h (J.af J.WP d 362 54 57 [J.R x0, J.R x1, J.I x2, J.I x3, J.R x4, J.I x5] [] Q) := by
  exact J.r_virt (k2 := 364) (m := 2) i362_54 rfl 30 hq (by decide +kernel) (by decide) rfl (Nat.le_of_ble_eq_true rfl)
theorem b362_54_c31 (d : Nat) (h : J.H) (Q : J.O → J.H → Prop) (x0 x1 x2 x3 x4 x5 s0 s1 : Int) (hq : J.cl h s0 = 31) : J.WP d 362 54 [J.R x0, J.R x1, J.I x2, J.I x3, J.R x4, J.I x5] [J.R s1, J.R s0] h Q ↔ 0 < d ∧ J.WP (d - 1) 364 0 [J.R s0, J.R s1] [] h (J.af J.WP d 362 54 57 [J.R x0, J.R x1, J.I x2, J.I x3, J.R x4, J.I x5] [] Q) := by
  exact J.r_virt (k2 := 364) (m := 2) i362_54 rfl 31 hq (by decide +kernel) (by decide) rfl (Nat.le_of_ble_eq_true rfl)
theorem b362_54_c32 (d : Nat) (h : J.H) (Q : J.O → J.H → Prop) (x0 x1 x2 x3 x4 x5 s0 s1 : Int) (hq : J.cl h s0 = 32) : J.WP d 362 54 [J.R x0, J.R x1, J.I x2, J.I x3, J.R x4, J.I x5] [J.R s1, J.R s0] h Q ↔ 0 < d ∧ J.WP (d - 1) 364 0 [J.R s0, J.R s1] [] h (J.af J.WP d 362 54 57 [J.R x0, J.R x1, J.I x2, J.I x3, J.R x4, J.I x5] [] Q) := by
  exact J.r_virt (k2 := 364) (m := 2) i362_54 rfl 32 hq (by decide +kernel) (by decide) rfl (Nat.le_of_ble_eq_true rfl)
theorem b362_54_c33 (d : Nat) (h : J.H) (Q : J.O → J.H → Prop) (x0 x1 x2 x3 x4 x5 s0 s1 : Int) (hq : J.cl h s0 = 33) : J.WP d 362 54 [J.R x0, J.R x1, J.I x2, J.I x3, J.R x4, J.I x5] [J.R s1, J.R s0] h Q ↔ 0 < d ∧ J.WP (d - 1) 364 0 [J.R s0, J.R s1] [] h (J.af J.WP d 362 54 57 [J.R x0, J.R x1, J.I x2, J.I x3, J.R x4, J.I x5] [] Q) := by
  exact J.r_virt (k2 := 364) (m := 2) i362_54 rfl 33 hq (by decide +kernel) (by decide) rfl (Nat.le_of_ble_eq_true rfl)
theorem b362_54_c34 (d : Nat) (h : J.H) (Q : J.O → J.H → Prop) (x0 x1 x2 x3 x4 x5 s0 s1 : Int) (hq : J.cl h s0 = 34) : J.WP d 362 54 [J.R x0, J.R x1, J.I x2, J.I x3, J.R x4, J.I x5] [J.R s1, J.R s0] h Q ↔ 0 < d ∧ J.WP (d - 1) 364 0 [J.R s0, J.R s1] [] h (J.af J.WP d 362 54 57 [J.R x0, J.R x1, J.I x2, J.I x3, J.R x4, J.I x5] [] Q) := by
  exact J.r_virt (k2 := 364) (m := 2) i362_54 rfl 34 hq (by decide +kernel) (by decide) rfl (Nat.le_of_ble_eq_true rfl)
theorem b362_54_c35 (d : Nat) (h : J.H) (Q : J.O → J.H → Prop) (x0 x1 x2 x3 x4 x5 s0 s1 : Int) (hq : J.cl h s0 = 35) : J.WP d 362 54 [J.R x0, J.R x1, J.I x2, J.I x3, J.R x4, J.I x5] [J.R s1, J.R s0] h Q ↔ 0 < d ∧ J.WP (d - 1) 364 0 [J.R s0, J.R s1] [] h (J.af J.WP d 362 54 57 [J.R x0, J.R x1, J.I x2, J.I x3, J.R x4, J.I x5] [] Q) := by
  exact J.r_virt (k2 := 364) (m := 2) i362_54 rfl 35 hq (by decide +kernel) (by decide) rfl (Nat.le_of_ble_eq_true rfl)
theorem b362_54_c36 (d : Nat) (h : J.H) (Q : J.O → J.H → Prop) (x0 x1 x2 x3 x4 x5 s0 s1 : Int) (hq : J.cl h s0 = 36) : J.WP d 362 54 [J.R x0, J.R x1, J.I x2, J.I x3, J.R x4, J.I x5] [J.R s1, J.R s0] h Q ↔ 0 < d ∧ J.WP (d - 1) 364 0 [J.R s0, J.R s1] [] h (J.af J.WP d 362 54 57 [J.R x0, J.R x1, J.I x2, J.I x3, J.R x4, J.I x5] [] Q) := by
  exact J.r_virt (k2 := 364) (m := 2) i362_54 rfl 36 hq (by decide +kernel) (by decide) rfl (Nat.le_of_ble_eq_true rfl)
theorem b362_54_c37 (d : Nat) (h : J.H) (Q : J.O → J.H → Prop) (x0 x1 x2 x3 x4 x5 s0 s1 : Int) (hq : J.cl h s0 = 37) : J.WP d 362 54 [J.R x0, J.R x1, J.I x2, J.I x3, J.R x4, J.I x5] [J.R s1, J.R s0] h Q ↔ 0 < d ∧ J.WP (d - 1) 364 0 [J.R s0, J.R s1] [] h (J.af J.WP d 362 54 57 [J.R x0, J.R x1, J.I x2, J.I x3, J.R x4, J.I x5] [] Q) := by
  exact J.r_virt (k2 := 364) (m := 2) i362_54 rfl 37 hq (by decide +kernel) (by decide) rfl (Nat.le_of_ble_eq_true rfl)
theorem b362_54_c38 (d : Nat) (h : J.H) (Q : J.O → J.H → Prop) (x0 x1 x2 x3 x4 x5 s0 s1 : Int) (hq : J.cl h s0 = 38) : J.WP d 362 54 [J.R x0, J.R x1, J.I x2, J.I x3, J.R x4, J.I x5] [J.R s1, J.R s0] h Q ↔ 0 < d ∧ J.WP (d - 1) 364 0 [J.R s0, J.R s1] [] h (J.af J.WP d 362 54 57 [J.R x0, J.R x1, J.I x2, J.I x3, J.R x4, J.I x5] [] Q) := by
  exact J.r_virt (k2 := 364) (m := 2) i362_54 rfl 38 hq (by decide +kernel) (by decide) rfl (Nat.le_of_ble_eq_true rfl)
theorem b362_54_c39 (d : Nat) (h : J.H) (Q : J.O → J.H → Prop) (x0 x1 x2 x3 x4 x5 s0 s1 : Int) (hq : J.cl h s0 = 39) : J.WP d 362 54 [J.R x0, J.R x1, J.I x2, J.I x3, J.R x4, J.I x5] [J.R s1, J.R s0] h Q ↔ 0 < d ∧ J.WP (d - 1) 364 0 [J.R s0, J.R s1] [] h (J.af J.WP d 362 54 57 [J.R x0, J.R x1, J.I x2, J.I x3, J.R x4, J.I x5] [] Q) := by
  exact J.r_virt (k2 := 364) (m := 2) i362_54 rfl 39 hq (by decide +kernel) (by decide) rfl (Nat.le_of_ble_eq_true rfl)
theorem b362_54_c40 (d : Nat) (h : J.H) (Q : J.O → J.H → Prop) (x0 x1 x2 x3 x4 x5 s0 s1 : Int) (hq : J.cl h s0 = 40) : J.WP d 362 54 [J.R x0, J.R x1, J.I x2, J.I x3, J.R x4, J.I x5] [J.R s1, J.R s0] h Q ↔ 0 < d ∧ J.WP (d - 1) 364 0 [J.R s0, J.R s1] [] h (J.af J.WP d 362 54 57 [J.R x0, J.R x1, J.I x2, J.I x3, J.R x4, J.I x5] [] Q) := by
  exact J.r_virt (k2 := 364) (m := 2) i362_54 rfl 40 hq (by decide +kernel) (by decide) rfl (Nat.le_of_ble_eq_true rfl)
theorem b362_54_c41 (d : Nat) (h : J.H) (Q : J.O → J.H → Prop) (x0 x1 x2 x3 x4 x5 s0 s1 : Int) (hq : J.cl h s0 = 41) : J.WP d 362 54 [J.R x0, J.R x1, J.I x2, J.I x3, J.R x4, J.I x5] [J.R s1, J.R s0] h Q ↔ 0 < d ∧ J.WP (d - 1) 364 0 [J.R s0, J.R s1] [] h (J.af J.WP d 362 54 57 [J.R x0, J.R x1, J.I x2, J.I x3, J.R x4, J.I x5] [] Q) := by
  exact J.r_virt (k2 := 364) (m := 2) i362_54 rfl 41 hq (by decide +kernel) (by decide) rfl (Nat.le_of_ble_eq_true rfl)
theorem b362_54_c42 (d : Nat) (h : J.H) (Q : J.O → J.H → Prop) (x0 x1 x2 x3 x4 x5 s0 s1 : Int) (hq : J.cl h s0 = 42) : J.WP d 362 54 [J.R x0, J.R x1, J.I x2, J.I x3, J.R x4, J.I x5] [J.R s1, J.R s0] h Q ↔ 0 < d ∧ J.WP (d - 1) 364 0 [J.R s0, J.R s1] [] h (J.af J.WP d 362 54 57 [J.R x0, J.R x1, J.I x2, J.I x3, J.R x4, J.I x5] [] Q) := by
  exact J.r_virt (k2 := 364) (m := 2) i362_54 rfl 42 hq (by decide +kernel) (by decide) rfl (Nat.le_of_ble_eq_true rfl)
theorem b362_54_c43 (d : Nat) (h : J.H) (Q : J.O → J.H → Prop) (x0 x1 x2 x3 x4 x5 s0 s1 : Int) (hq : J.cl h s0 = 43) : J.WP d 362 54 [J.R x0, J.R x1, J.I x2, J.I x3, J.R x4, J.I x5] [J.R s1, J.R s0] h Q ↔ 0 < d ∧ J.WP (d - 1) 364 0 [J.R s0, J.R s1] [] h (J.af J.WP d 362 54 57 [J.R x0, J.R x1, J.I x2, J.I x3, J.R x4, J.I x5] [] Q) := by
  exact J.r_virt (k2 := 364) (m := 2) i362_54 rfl 43 hq (by decide +kernel) (by decide) rfl (Nat.le_of_ble_eq_true rfl)
theorem b362_54_c44 (d : Nat) (h : J.H) (Q : J.O → J.H → Prop) (x0 x1 x2 x3 x4 x5 s0 s1 : Int) (hq : J.cl h s0 = 44) : J.WP d 362 54 [J.R x0, J.R x1, J.I x2, J.I x3, J.R x4, J.I x5] [J.R s1, J.R s0] h Q ↔ 0 < d ∧ J.WP (d - 1) 364 0 [J.R s0, J.R s1] [] h (J.af J.WP d 362 54 57 [J.R x0, J.R x1, J.I x2, J.I x3, J.R x4, J.I x5] [] Q) := by
  exact J.r_virt (k2 := 364) (m := 2) i362_54 rfl 44 hq (by decide +kernel) (by decide) rfl (Nat.le_of_ble_eq_true rfl)
theorem b362_54_c45 (d : Nat) (h : J.H) (Q : J.O → J.H → Prop) (x0 x1 x2 x3 x4 x5 s0 s1 : Int) (hq : J.cl h s0 = 45) : J.WP d 362 54 [J.R x0, J.R x1, J.I x2, J.I x3, J.R x4, J.I x5] [J.R s1, J.R s0] h Q ↔ 0 < d ∧ J.WP (d - 1) 364 0 [J.R s0, J.R s1] [] h (J.af J.WP d 362 54 57 [J.R x0, J.R x1, J.I x2, J.I x3, J.R x4, J.I x5] [] Q) := by
  exact J.r_virt (k2 := 364) (m := 2) i362_54 rfl 45 hq (by decide +kernel) (by decide) rfl (Nat.le_of_ble_eq_true rfl)
theorem b362_54_c46 (d : Nat) (h : J.H) (Q : J.O → J.H → Prop) (x0 x1 x2 x3 x4 x5 s0 s1 : Int) (hq : J.cl h s0 = 46) : J.WP d 362 54 [J.R x0, J.R x1, J.I x2, J.I x3, J.R x4, J.I x5] [J.R s1, J.R s0] h Q ↔ 0 < d ∧ J.WP (d - 1) 364 0 [J.R s0, J.R s1] [] h (J.af J.WP d 362 54 57 [J.R x0, J.R x1, J.I x2, J.I x3, J.R x4, J.I x5] [] Q) := by
  exact J.r_virt (k2 := 364) (m := 2) i362_54 rfl 46 hq (by decide +kernel) (by decide) rfl (Nat.le_of_ble_eq_true rfl)
theorem b362_54_c47 (d : Nat) (h : J.H) (Q : J.O → J.H → Prop) (x0 x1 x2 x3 x4 x5 s0 s1 : Int) (hq : J.cl h s0 = 47) : J.WP d 362 54 [J.R x0, J.R x1, J.I x2, J.I x3, J.R x4, J.I x5] [J.R s1, J.R s0] h Q ↔ 0 < d ∧ J.WP (d - 1) 364 0 [J.R s0, J.R s1] [] h (J.af J.WP d 362 54 57 [J.R x0, J.R x1, J.I x2, J.I x3, J.R x4, J.I x5] [] Q) := by
  exact J.r_virt (k2 := 364) (m := 2) i362_54 rfl 47 hq (by decide +kernel) (by decide) rfl (Nat.le_of_ble_eq_true rfl)
theorem b362_54_c48 (d : Nat) (h : J.H) (Q : J.O → J.H → Prop) (x0 x1 x2 x3 x4 x5 s0 s1 : Int) (hq : J.cl h s0 = 48) : J.WP d 362 54 [J.R x0, J.R x1, J.I x2, J.I x3, J.R x4, J.I x5] [J.R s1, J.R s0] h Q ↔ 0 < d ∧ J.WP (d - 1) 364 0 [J.R s0, J.R s1] [] h (J.af J.WP d 362 54 57 [J.R x0, J.R x1, J.I x2, J.I x3, J.R x4, J.I x5] [] Q) := by
  exact J.r_virt (k2 := 364) (m := 2) i362_54 rfl 48 hq (by decide +kernel) (by decide) rfl (Nat.le_of_ble_eq_true rfl)
theorem b362_54_c49 (d : Nat) (h : J.H) (Q : J.O → J.H → Prop) (x0 x1 x2 x3 x4 x5 s0 s1 : Int) (hq : J.cl h s0 = 49) : J.WP d 362 54 [J.R x0, J.R x1, J.I x2, J.I x3, J.R x4, J.I x5] [J.R s1, J.R s0] h Q ↔ 0 < d ∧ J.WP (d - 1) 364 0 [J.R s0, J.R s1] [] h (J.af J.WP d 362 54 57 [J.R x0, J.R x1, J.I x2, J.I x3, J.R x4, J.I x5] [] Q) := by
  exact J.r_virt (k2 := 364) (m := 2) i362_54 rfl 49 hq (by decide +kernel) (by decide) rfl (Nat.le_of_ble_eq_true rfl)
theorem b362_54_c50 (d : Nat) (h : J.H) (Q : J.O → J.H → Prop) (x0 x1 x2 x3 x4 x5 s0 s1 : Int) (hq : J.cl h s0 = 50) : J.WP d 362 54 [J.R x0, J.R x1, J.I x2, J.I x3, J.R x4, J.I x5] [J.R s1, J.R s0] h Q ↔ 0 < d ∧ J.WP (d - 1) 364 0 [J.R s0, J.R s1] [] h (J.af J.WP d 362 54 57 [J.R x0, J.R x1, J.I x2, J.I x3, J.R x4, J.I x5] [] Q) := by
  exact J.r_virt (k2 := 364) (m := 2) i362_54 rfl 50 hq (by decide +kernel) (by decide) rfl (Nat.le_of_ble_eq_true rfl)
theorem b362_54_c51 (d : Nat) (h : J.H) (Q : J.O → J.H → Prop) (x0 x1 x2 x3 x4 x5 s0 s1 : Int) (hq : J.cl h s0 = 51) : J.WP d 362 54 [J.R x0, J.R x1, J.I x2, J.I x3, J.R x4, J.I x5] [J.R s1, J.R s0] h Q ↔ 0 < d ∧ J.WP (d - 1) 364 0 [J.R s0, J.R s1] [] h (J.af J.WP d 362 54 57 [J.R x0, J.R x1, J.I x2, J.I x3, J.R x4, J.I x5] [] Q) := by
  exact J.r_virt (k2 := 364) (m := 2) i362_54 rfl 51 hq (by decide +kernel) (by decide) rfl (Nat.le_of_ble_eq_true rfl)
theorem b362_54_c52 (d : Nat) (h : J.H) (Q : J.O → J.H → Prop) (x0 x1 x2 x3 x4 x5 s0 s1 : Int) (hq : J.cl h s0 = 52) : J.WP d 362 54 [J.R x0, J.R x1, J.I x2, J.I x3, J.R x4, J.I x5] [J.R s1, J.R s0] h Q ↔ 0 < d ∧ J.WP (d - 1) 364 0 [J.R s0, J.R s1] [] h (J.af J.WP d 362 54 57 [J.R x0, J.R x1, J.I x2, J.I x3, J.R x4, J.I x5] [] Q) := by
  exact J.r_virt (k2 := 364) (m := 2) i362_54 rfl 52 hq (by decide +kernel) (by decide) rfl (Nat.le_of_ble_eq_true rfl)
theorem b362_54_c53 (d : Nat) (h : J.H) (Q : J.O → J.H → Prop) (x0 x1 x2 x3 x4 x5 s0 s1 : Int) (hq : J.cl h s0 = 53) : J.WP d 362 54 [J.R x0, J.R x1, J.I x2, J.I x3, J.R x4, J.I x5] [J.R s1, J.R s0] h Q ↔ 0 < d ∧ J.WP (d - 1) 364 0 [J.R s0, J.R s1] [] h (J.af J.WP d 362 54 57 [J.R x0, J.R x1, J.I x2, J.I x3, J.R x4, J.I x5] [] Q) := by
  exact J.r_virt (k2 := 364) (m := 2) i362_54 rfl 53 hq (by decide +kernel) (by decide) rfl (Nat.le_of_ble_eq_true rfl)
theorem b362_54_c54 (d : Nat) (h : J.H) (Q : J.O → J.H → Prop) (x0 x1 x2 x3 x4 x5 s0 s1 : Int) (hq : J.cl h s0 = 54) : J.WP d 362 54 [J.R x0, J.R x1, J.I x2, J.I x3, J.R x4, J.I x5] [J.R s1, J.R s0] h Q ↔ 0 < d ∧ J.WP (d - 1) 364 0 [J.R s0, J.R s1] [] h (J.af J.WP d 362 54 57 [J.R x0, J.R x1, J.I x2, J.I x3, J.R x4, J.I x5] [] Q) := by
  exact J.r_virt (k2 := 364) (m := 2) i362_54 rfl 54 hq (by decide +kernel) (by decide) rfl (Nat.le_of_ble_eq_true rfl)
theorem b362_54_c55 (d : Nat) (h : J.H) (Q : J.O → J.H → Prop) (x0 x1 x2 x3 x4 x5 s0 s1 : Int) (hq : J.cl h s0 = 55) : J.WP d 362 54 [J.R x0, J.R x1, J.I x2, J.I x3, J.R x4, J.I x5] [J.R s1, J.R s0] h Q ↔ 0 < d ∧ J.WP (d - 1) 364 0 [J.R s0, J.R s1] [] h (J.af J.WP d 362 54 57 [J.R x0, J.R x1, J.I x2, J.I x3, J.R x4, J.I x5] [] Q) := by
  exact J.r_virt (k2 := 364) (m := 2) i362_54 rfl 55 hq (by decide +kernel) (by decide) rfl (Nat.le_of_ble_eq_true rfl)
theorem b362_54_c56 (d : Nat) (h : J.H) (Q : J.O → J.H → Prop) (x0 x1 x2 x3 x4 x5 s0 s1 : Int) (hq : J.cl h s0 = 56) : J.WP d 362 54 [J.R x0, J.R x1, J.I x2, J.I x3, J.R x4, J.I x5] [J.R s1, J.R s0] h Q ↔ 0 < d ∧ J.WP (d - 1) 364 0 [J.R s0, J.R s1] [] h (J.af J.WP d 362 54 57 [J.R x0, J.R x1, J.I x2, J.I x3, J.R x4, J.I x5] [] Q) := by
  exact J.r_virt (k2 := 364) (m := 2) i362_54 rfl 56 hq (by decide +kernel) (by decide) rfl (Nat.le_of_ble_eq_true rfl)
theorem b362_54_c57 (d : Nat) (h : J.H) (Q : J.O → J.H → Prop) (x0 x1 x2 x3 x4 x5 s0 s1 : Int) (hq : J.cl h s0 = 57) : J.WP d 362 54 [J.R x0, J.R x1, J.I x2, J.I x3, J.R x4, J.I x5] [J.R s1, J.R s0] h Q ↔ 0 < d ∧ J.WP (d - 1) 364 0 [J.R s0, J.R s1] [] h (J.af J.WP d 362 54 57 [J.R x0, J.R x1, J.I x2, J.I x3, J.R x4, J.I x5] [] Q) := by
  exact J.r_virt (k2 := 364) (m := 2) i362_54 rfl 57 hq (by decide +kernel) (by decide) rfl (Nat.le_of_ble_eq_true rfl)
theorem b362_54_c58 (d : Nat) (h : J.H) (Q : J.O → J.H → Prop) (x0 x1 x2 x3 x4 x5 s0 s1 : Int) (hq : J.cl h s0 = 58) : J.WP d 362 54 [J.R x0, J.R x1, J.I x2, J.I x3, J.R x4, J.I x5] [J.R s1, J.R s0] h Q ↔ 0 < d ∧ J.WP (d - 1) 364 0 [J.R s0, J.R s1] [] h (J.af J.WP d 362 54 57 [J.R x0, J.R x1, J.I x2, J.I x3, J.R x4, J.I x5] [] Q) := by
  exact J.r_virt (k2 := 364) (m := 2) i362_54 rfl 58 hq (by decide +kernel) (by decide) rfl (Nat.le_of_ble_eq_true rfl)
theorem b362_54_c59 (d : Nat) (h : J.H) (Q : J.O → J.H → Prop) (x0 x1 x2 x3 x4 x5 s0 s1 : Int) (hq : J.cl h s0 = 59) : J.WP d 362 54 [J.R x0, J.R x1, J.I x2, J.I x3, J.R x4, J.I x5] [J.R s1, J.R s0] h Q ↔ 0 < d ∧ J.WP (d - 1) 364 0 [J.R s0, J.R s1] [] h (J.af J.WP d 362 54 57 [J.R x0, J.R x1, J.I x2, J.I x3, J.R x4, J.I x5] [] Q) := by
  exact J.r_virt (k2 := 364) (m := 2) i362_54 rfl 59 hq (by decide +kernel) (by decide) rfl (Nat.le_of_ble_eq_true rfl)
theorem b362_54_c60 (d : Nat) (h : J.H) (Q : J.O → J.H → Prop) (x0 x1 x2 x3 x4 x5 s0 s1 : Int) (hq : J.cl h s0 = 60) : J.WP d 362 54 [J.R x0, J.R x1, J.I x2, J.I x3, J.R x4, J.I x5] [J.R s1, J.R s0] h Q ↔ 0 < d ∧ J.WP (d - 1) 364 0 [J.R s0, J.R s1] [] h (J.af J.WP d 362 54 57 [J.R x0, J.R x1, J.I x2, J.I x3, J.R x4, J.I x5] [] Q) := by
  exact J.r_virt (k2 := 364) (m := 2) i362_54 rfl 60 hq (by decide +kernel) (by decide) rfl (Nat.le_of_ble_eq_true rfl)
theorem b362_54_c61 (d : Nat) (h : J.H) (Q : J.O → J.H → Prop) (x0 x1 x2 x3 x4 x5 s0 s1 : Int) (hq : J.cl h s0 = 61) : J.WP d 362 54 [J.R x0, J.R x1, J.I x2, J.I x3, J.R x4, J.I x5] [J.R s1, J.R s0] h Q ↔ 0 < d ∧ J.WP (d - 1) 364 0 [J.R s0, J.R s1] [] h (J.af J.WP d 362 54 57 [J.R x0, J.R x1, J.I x2, J.I x3, J.R x4, J.I x5] [] Q) := by
  exact J.r_virt (k2 := 364) (m := 2) i362_54 rfl 61 hq (by decide +kernel) (by decide) rfl (Nat.le_of_ble_eq_true rfl)
theorem b362_54_c62 (d : Nat) (h : J.H) (Q : J.O → J.H → Prop) (x0 x1 x2 x3 x4 x5 s0 s1 : Int) (hq : J.cl h s0 = 62) : J.WP d 362 54 [J.R x0, J.R x1, J.I x2, J.I x3, J.R x4, J.I x5] [J.R s1, J.R s0] h Q ↔ 0 < d ∧ J.WP (d - 1) 364 0 [J.R s0, J.R s1] [] h (J.af J.WP d 362 54 57 [J.R x0, J.R x1, J.I x2, J.I x3, J.R x4, J.I x5] [] Q) := by
  exact J.r_virt (k2 := 364) (m := 2) i362_54 rfl 62 hq (by decide +kernel) (by decide) rfl (Nat.le_of_ble_eq_true rfl)
theorem b362_54_c63 (d : Nat) (h : J.H) (Q : J.O → J.H → Prop) (x0 x1 x2 x3 x4 x5 s0 s1 : Int) (hq : J.cl h s0 = 63) : J.WP d 362 54 [J.R x0, J.R x1, J.I x2, J.I x3, J.R x4, J.I x5] [J.R s1, J.R s0] h Q ↔ 0 < d ∧ J.WP (d - 1) 364 0 [J.R s0, J.R s1] [] h (J.af J.WP d 362 54 57 [J.R x0, J.R x1, J.I x2, J.I x3, J.R x4, J.I x5] [] Q) := by
  exact J.r_virt (k2 := 364) (m := 2) i362_54 rfl 63 hq (by decide +kernel) (by decide) rfl (Nat.le_of_ble_eq_true rfl)
theorem b362_54_c64 (d : Nat) (h : J.H) (Q : J.O → J.H → Prop) (x0 x1 x2 x3 x4 x5 s0 s1 : Int) (hq : J.cl h s0 = 64) : J.WP d 362 54 [J.R x0, J.R x1, J.I x2, J.I x3, J.R x4, J.I x5] [J.R s1, J.R s0] h Q ↔ 0 < d ∧ J.WP (d - 1) 364 0 [J.R s0, J.R s1] [] h (J.af J.WP d 362 54 57 [J.R x0, J.R x1, J.I x2, J.I x3, J.R x4, J.I x5] [] Q) := by
  exact J.r_virt (k2 := 364) (m := 2) i362_54 rfl 64 hq (by decide +kernel) (by decide) rfl (Nat.le_of_ble_eq_true rfl)
theorem b362_54_c65 (d : Nat) (h : J.H) (Q : J.O → J.H → Prop) (x0 x1 x2 x3 x4 x5 s0 s1 : Int) (hq : J.cl h s0 = 65) : J.WP d 362 54 [J.R x0, J.R x1, J.I x2, J.I x3, J.R x4, J.I x5] [J.R s1, J.R s0] h Q ↔ 0 < d ∧ J.WP (d - 1) 364 0 [J.R s0, J.R s1] [] h (J.af J.WP d 362 54 57 [J.R x0, J.R x1, J.I x2, J.I x3, J.R x4, J.I x5] [] Q) := by
  exact J.r_virt (k2 := 364) (m := 2) i362_54 rfl 65 hq (by decide +kernel) (by decide) rfl (Nat.le_of_ble_eq_true rfl)
theorem b362_54_c66 (d : Nat) (h : J.H) (Q : J.O → J.H → Prop) (x0 x1 x2 x3 x4 x5 s0 s1 : Int) (hq : J.cl h s0 = 66) : J.WP d 362 54 [J.R x0, J.R x1, J.I x2, J.I x3, J.R x4, J.I x5] [J.R s1, J.R s0] h Q ↔ 0 < d ∧ J.WP (d - 1) 364 0 [J.R s0, J.R s1] [] h (J.af J.WP d 362 54 57 [J.R x0, J.R x1, J.I x2, J.I x3, J.R x4, J.I x5] [] Q) := by
  exact J.r_virt (k2 := 364) (m := 2) i362_54 rfl 66 hq (by decide +kernel) (by decide) rfl (Nat.le_of_ble_eq_true rfl)
theorem b362_54_c67 (d : Nat) (h : J.H) (Q : J.O → J.H → Prop) (x0 x1 x2 x3 x4 x5 s0 s1 : Int) (hq : J.cl h s0 = 67) : J.WP d 362 54 [J.R x0, J.R x1, J.I x2, J.I x3, J.R x4, J.I x5] [J.R s1, J.R s0] h Q ↔ 0 < d ∧ J.WP (d - 1) 364 0 [J.R s0, J.R s1] [] h (J.af J.WP d 362 54 57 [J.R x0, J.R x1, J.I x2, J.I x3, J.R x4, J.I x5] [] Q) := by
  exact J.r_virt (k2 := 364) (m := 2) i362_54 rfl 67 hq (by decide +kernel) (by decide) rfl (Nat.le_of_ble_eq_true rfl)
theorem b362_54_c68 (d : Nat) (h : J.H) (Q : J.O → J.H → Prop) (x0 x1 x2 x3 x4 x5 s0 s1 : Int) (hq : J.cl h s0 = 68) : J.WP d 362 54 [J.R x0, J.R x1, J.I x2, J.I x3, J.R x4, J.I x5] [J.R s1, J.R s0] h Q ↔ 0 < d ∧ J.WP (d - 1) 364 0 [J.R s0, J.R s1] [] h (J.af J.WP d 362 54 57 [J.R x0, J.R x1, J.I x2, J.I x3, J.R x4, J.I x5] [] Q) := by
  exact J.r_virt (k2 := 364) (m := 2) i362_54 rfl 68 hq (by decide +kernel) (by decide) rfl (Nat.le_of_ble_eq_true rfl)
theorem b362_54_c69 (d : Nat) (h : J.H) (Q : J.O → J.H → Prop) (x0 x1 x2 x3 x4 x5 s0 s1 : Int) (hq : J.cl h s0 = 69) : J.WP d 362 54 [J.R x0, J.R x1, J.I x2, J.I x3, J.R x4, J.I x5] [J.R s1, J.R s0] h Q ↔ 0 < d ∧ J.WP (d - 1) 364 0 [J.R s0, J.R s1] [] h (J.af J.WP d 362 54 57 [J.R x0, J.R x1, J.I x2, J.I x3, J.R x4, J.I x5] [] Q) := by
  exact J.r_virt (k2 := 364) (m := 2) i362_54 rfl 69 hq (by decide +kernel) (by decide) rfl (Nat.le_of_ble_eq_true rfl)
theorem b362_54_c70 (d : Nat) (h : J.H) (Q : J.O → J.H → Prop) (x0 x1 x2 x3 x4 x5 s0 s1 : Int) (hq : J.cl h s0 = 70) : J.WP d 362 54 [J.R x0, J.R x1, J.I x2, J.I x3, J.R x4, J.I x5] [J.R s1, J.R s0] h Q ↔ 0 < d ∧ J.WP (d - 1) 364 0 [J.R s0, J.R s1] [] h (J.af J.WP d 362 54 57 [J.R x0, J.R x1, J.I x2, J.I x3, J.R x4, J.I x5] [] Q) := by
  exact J.r_virt (k2 := 364) (m := 2) i362_54 rfl 70 hq (by decide +kernel) (by decide) rfl (Nat.le_of_ble_eq_true rfl)
theorem b362_54_c71 (d : Nat) (h : J.H) (Q : J.O → J.H → Prop) (x0 x1 x2 x3 x4 x5 s0 s1 : Int) (hq : J.cl h s0 = 71) : J.WP d 362 54 [J.R x0, J.R x1, J.I x2, J.I x3, J.R x4, J.I x5] [J.R s1, J.R s0] h Q ↔ 0 < d ∧ J.WP (d - 1) 364 0 [J.R s0, J.R s1] [] h (J.af J.WP d 362 54 57 [J.R x0, J.R x1, J.I x2, J.I x3, J.R x4, J.I x5] [] Q) := by
  exact J.r_virt (k2 := 364) (m := 2) i362_54 rfl 71 hq (by decide +kernel) (by decide) rfl (Nat.le_of_ble_eq_true rfl)
theorem b362_54_c72 (d : Nat) (h : J.H) (Q : J.O → J.H → Prop) (x0 x1 x2 x3 x4 x5 s0 s1 : Int) (hq : J.cl h s0 = 72) : J.WP d 362 54 [J.R x0, J.R x1, J.I x2, J.I x3, J.R x4, J.I x5] [J.R s1, J.R s0] h Q ↔ 0 < d ∧ J.WP (d - 1) 364 0 [J.R s0, J.R s1] [] h (J.af J.WP d 362 54 57 [J.R x0, J.R x1, J.I x2, J.I x3, J.R x4, J.I x5] [] Q) := by
  exact J.r_virt (k2 := 364) (m := 2) i362_54 rfl 72 hq (by decide +kernel) (by decide) rfl (Nat.le_of_ble_eq_true rfl)
theorem b362_54_c73 (d : Nat) (h : J.H) (Q : J.O → J.H → Prop) (x0 x1 x2 x3 x4 x5 s0 s1 : Int) (hq : J.cl h s0 = 73) : J.WP d 362 54 [J.R x0, J.R x1, J.I x2, J.I x3, J.R x4, J.I x5] [J.R s1, J.R s0] h Q ↔ 0 < d ∧ J.WP (d - 1) 364 0 [J.R s0, J.R s1] [] h (J.af J.WP d 362 54 57 [J.R x0, J.R x1, J.I x2, J.I x3, J.R x4, J.I x5] [] Q) := by
  exact J.r_virt (k2 := 364) (m := 2) i362_54 rfl 73 hq (by decide +kernel) (by decide) rfl (Nat.le_of_ble_eq_true rfl)
theorem b362_54_c74 (d : Nat) (h : J.H) (Q : J.O → J.H → Prop) (x0 x1 x2 x3 x4 x5 s0 s1 : Int) (hq : J.cl h s0 = 74) : J.WP d 362 54 [J.R x0, J.R x1, J.I x2, J.I x3, J.R x4, J.I x5] [J.R s1, J.R s0] h Q ↔ 0 < d ∧ J.WP (d - 1) 364 0 [J.R s0, J.R s1] [] h (J.af J.WP d 362 54 57 [J.R x0, J.R x1, J.I x2, J.I x3, J.R x4, J.I x5] [] Q) := by
  exact J.r_virt (k2 := 364) (m := 2) i362_54 rfl 74 hq (by decide +kernel) (by decide) rfl (Nat.le_of_ble_eq_true rfl)
theorem b362_54_c75 (d : Nat) (h : J.H) (Q : J.O → J.H → Prop) (x0 x1 x2 x3 x4 x5 s0 s1 : Int) (hq : J.cl h s0 = 75) : J.WP d 362 54 [J.R x0, J.R x1, J.I x2, J.I x3, J.R x4, J.I x5] [J.R s1, J.R s0] h Q ↔ 0 < d ∧ J.WP (d - 1) 364 0 [J.R s0, J.R s1] [] h (J.af J.WP d 362 54 57 [J.R x0, J.R x1, J.I x2, J.I x3, J.R x4, J.I x5] [] Q) := by
  exact J.r_virt (k2 := 364) (m := 2) i362_54 rfl 75 hq (by decide +kernel) (by decide) rfl (Nat.le_of_ble_eq_true rfl)
theorem b362_54_c76 (d : Nat) (h : J.H) (Q : J.O → J.H → Prop) (x0 x1 x2 x3 x4 x5 s0 s1 : Int) (hq : J.cl h s0 = 76) : J.WP d 362 54 [J.R x0, J.R x1, J.I x2, J.I x3, J.R x4, J.I x5] [J.R s1, J.R s0] h Q ↔ 0 < d ∧ J.WP (d - 1) 364 0 [J.R s0, J.R s1] [] h (J.af J.WP d 362 54 57 [J.R x0, J.R x1, J.I x2, J.I x3, J.R x4, J.I x5] [] Q) := by
  exact J.r_virt (k2 := 364) (m := 2) i362_54 rfl 76 hq (by decide +kernel) (by decide) rfl (Nat.le_of_ble_eq_true rfl)
theorem b362_54_c77 (d : Nat) (h : J.H) (Q : J.O → J.H → Prop) (x0 x1 x2 x3 x4 x5 s0 s1 : Int) (hq : J.cl h s0 = 77) : J.WP d 362 54 [J.R x0, J.R x1, J.I x2, J.I x3, J.R x4, J.I x5] [J.R s1, J.R s0] h Q ↔ 0 < d ∧ J.WP (d - 1) 364 0 [J.R s0, J.R s1] [] h (J.af J.WP d 362 54 57 [J.R x0, J.R x1, J.I x2, J.I x3, J.R x4, J.I x5] [] Q) := by
  exact J.r_virt (k2 := 364) (m := 2) i362_54 rfl 77 hq (by decide +kernel) (by decide) rfl (Nat.le_of_ble_eq_true rfl)
theorem b362_54_c78 (d : Nat) (h : J.H) (Q : J.O → J.H → Prop) (x0 x1 x2 x3 x4 x5 s0 s1 : Int) (hq : J.cl h s0 = 78) : J.WP d 362 54 [J.R x0, J.R x1, J.I x2, J.I x3, J.R x4, J.I x5] [J.R s1, J.R s0] h Q ↔ 0 < d ∧ J.WP (d - 1) 364 0 [J.R s0, J.R s1] [] h (J.af J.WP d 362 54 57 [J.R x0, J.R x1, J.I x2, J.I x3, J.R x4, J.I x5] [] Q) := by
  exact J.r_virt (k2 := 364) (m := 2) i362_54 rfl 78 hq (by decide +kernel) (by decide) rfl (Nat.le_of_ble_eq_true rfl)
theorem b362_54_c79 (d : Nat) (h : J.H) (Q : J.O → J.H → Prop) (x0 x1 x2 x3 x4 x5 s0 s1 : Int) (hq : J.cl h s0 = 79) : J.WP d 362 54 [J.R x0, J.R x1, J.I x2, J.I x3, J.R x4, J.I x5] [J.R s1, J.R s0] h Q ↔ 0 < d ∧ J.WP (d - 1) 364 0 [J.R s0, J.R s1] [] h (J.af J.WP d 362 54 57 [J.R x0, J.R x1, J.I x2, J.I x3, J.R x4, J.I x5] [] Q) := by
  exact J.r_virt (k2 := 364) (m := 2) i362_54 rfl 79 hq (by decide +kernel) (by decide) rfl (Nat.le_of_ble_eq_true rfl)
theorem b362_54_c80 (d : Nat) (h : J.H) (Q : J.O → J.H → Prop) (x0 x1 x2 x3 x4 x5 s0 s1 : Int) (hq : J.cl h s0 = 80) : J.WP d 362 54 [J.R x0, J.R x1, J.I x2, J.I x3, J.R x4, J.I x5] [J.R s1, J.R s0] h Q ↔ 0 < d ∧ J.WP (d - 1) 364 0 [J.R s0, J.R s1] [] h (J.af J.WP d 362 54 57 [J.R x0, J.R x1, J.I x2, J.I x3, J.R x4, J.I x5] [] Q) := by
  exact J.r_virt (k2 := 364) (m := 2) i362_54 rfl 80 hq (by decide +kernel) (by decide) rfl (Nat.le_of_ble_eq_true rfl)
theorem b362_54_c81 (d : Nat) (h : J.H) (Q : J.O → J.H → Prop) (x0 x1 x2 x3 x4 x5 s0 s1 : Int) (hq : J.cl h s0 = 81) : J.WP d 362 54 [J.R x0, J.R x1, J.I x2, J.I x3, J.R x4, J.I x5] [J.R s1, J.R s0] h Q ↔ 0 < d ∧ J.WP (d - 1) 364 0 [J.R s0, J.R s1] [] h (J.af J.WP d 362 54 57 [J.R x0, J.R x1, J.I x2, J.I x3, J.R x4, J.I x5] [] Q) := by
  exact J.r_virt (k2 := 364) (m := 2) i362_54 rfl 81 hq (by decide +kernel) (by decide) rfl (Nat.le_of_ble_eq_true rfl)
theorem b362_54_c82 (d : Nat) (h : J.H) (Q : J.O → J.H → Prop) (x0 x1 x2 x3 x4 x5 s0 s1 : Int) (hq : J.cl h s0 = 82) : J.WP d 362 54 [J.R x0, J.R x1, J.I x2, J.I x3, J.R x4, J.I x5] [J.R s1, J.R s0] h Q ↔ 0 < d ∧ J.WP (d - 1) 364 0 [J.R s0, J.R s1] [] h (J.af J.WP d 362 54 57 [J.R x0, J.R x1, J.I x2, J.I x3, J.R x4, J.I x5] [] Q) := by
  exact J.r_virt (k2 := 364) (m := 2) i362_54 rfl 82 hq (by decide +kernel) (by decide) rfl (Nat.le_of_ble_eq_true rfl)
theorem b362_54_c83 (d : Nat) (h : J.H) (Q : J.O → J.H → Prop) (x0 x1 x2 x3 x4 x5 s0 s1 : Int) (hq : J.cl h s0 = 83) : J.WP d 362 54 [J.R x0, J.R x1, J.I x2, J.I x3, J.R x4, J.I x5] [J.R s1, J.R s0] h Q ↔ 0 < d ∧ J.WP (d - 1) 364 0 [J.R s0, J.R s1] [] h (J.af J.WP d 362 54 57 [J.R x0, J.R x1, J.I x2, J.I x3, J.R x4, J.I x5] [] Q) := by
  exact J.r_virt (k2 := 364) (m := 2) i362_54 rfl 83 hq (by decide +kernel) (by decide) rfl (Nat.le_of_ble_eq_true rfl)
theorem b362_54_c84 (d : Nat) (h : J.H) (Q : J.O → J.H → Prop) (x0 x1 x2 x3 x4 x5 s0 s1 : Int) (hq : J.cl h s0 = 84) : J.WP d 362 54 [J.R x0, J.R x1, J.I x2, J.I x3, J.R x4, J.I x5] [J.R s1, J.R s0] h Q ↔ 0 < d ∧ J.WP (d - 1) 364 0 [J.R s0, J.R s1] [] h (J.af J.WP d 362 54 57 [J.R x0, J.R x1, J.I x2, J.I x3, J.R x4, J.I x5] [] Q) := by
  exact J.r_virt (k2 := 364) (m := 2) i362_54 rfl 84 hq (by decide +kernel) (by decide) rfl (Nat.le_of_ble_eq_true rfl)
theorem b362_57 (d : Nat) (h : J.H) (Q : J.O → J.H → Prop) (x0 x1 x2 x3 x4 x5 s0 : Int) : J.WP d 362 57 [J.R x0, J.R x1, J.I x2, J.I x3, J.R x4, J.I x5] [J.I s0] h Q ↔ if s0 = 0 then (J.WP d 362 42 [J.R x0, J.R x1, J.I x2, J.I x3, J.R x4, J.I (J.w32 (x5 + 1))] [] h Q) else (Q (Sum.inl (some (J.I x5))) h) := by
  refine (J.r_ifeq i362_57).trans (J.ite2 ?_ ?_)
  · refine (J.r_iinc i362_63 rfl rfl).trans ?_
    refine (J.r_goto i362_66).trans ?_
    exact Iff.rfl
  · refine (J.r_iload i362_60 rfl).trans ?_
    exact J.r_iret i362_62 rfl
theorem b362_69 (d : Nat) (h : J.H) (Q : J.O → J.H → Prop) (x0 x1 x2 x3 x4 x5 : Int) : J.WP d 362 69 [J.R x0, J.R x1, J.I x2, J.I x3, J.R x4, J.I x5] [] h Q ↔ Q (Sum.inl (some (J.I (-1)))) h := by
  refine (J.r_iconst i362_69).trans ?_
  exact J.r_iret i362_70 rfl
/-! 363 java/lang/Enum.equals(Ljava/lang/Object;)Z -/
theorem i363_0 : J.cd 363 0 = some (.aload 0, 1, 0, 0, 0) := by decide +kernel
theorem i363_1 : J.cd 363 1 = some (.aload 1, 2, 0, 0, 0) := by decide +kernel
theorem i363_2 : J.cd 363 2 = some (.if_acmp .ne 7, 5, 9, 0, 0) := by decide +kernel
theorem i363_5 : J.cd 363 5 = some (.iconst 1, 6, 5, 0, 0) := by decide +kernel
theorem i363_6 : J.cd 363 6 = some (.goto 4, 9, 10, 0, 0) := by decide +kernel
theorem i363_9 : J.cd 363 9 = some (.iconst 0, 10, 9, 0, 0) := by decide +kernel
theorem i363_10 : J.cd 363 10 = some (.ireturn, 11, 0, 0, 3) := by decide +kernel
theorem b363_0 (d : Nat) (h : J.H) (Q : J.O → J.H → Prop) (x0 x1 : Int) : J.WP d 363 0 [J.R x0, J.R x1] [] h Q ↔ if x0 = x1 then (J.WP d 363 10 [J.R x0, J.R x1] [J.I 1] h Q) else (J.WP d 363 10 [J.R x0, J.R x1] [J.I 0] h Q) := by
  refine (J.r_aload i363_0 rfl).trans ?_
  refine (J.r_aload i363_1 rfl).trans ?_
  refine (J.r_acne i363_2).trans (J.ite2 ?_ ?_)
  · refine (J.r_iconst i363_5).trans ?_
    refine (J.r_goto i363_6).trans ?_
    exact Iff.rfl
  · refine (J.r_iconst i363_9).trans ?_
    exact Iff.rfl
theorem b363_10 (d : Nat) (h : J.H) (Q : J.O → J.H → Prop) (x0 x1 s0 : Int) : J.WP d 363 10 [J.R x0, J.R x1] [J.I s0] h Q ↔ (J.zo s0) ∧ Q (Sum.inl (some (J.I s0))) h := by
  exact J.r_iretZ i363_10 rfl
/-! 364 java/lang/Object.equals(Ljava/lang/Object;)Z -/
theorem i364_0 : J.cd 364 0 = some (.aload 0, 1, 0, 0, 0) := by decide +kernel
theorem i364_1 : J.cd 364 1 = some (.aload 1, 2, 0, 0, 0) := by decide +kernel
theorem i364_2 : J.cd 364 2 = some (.if_acmp .ne 7, 5, 9, 0, 0) := by decide +kernel
theorem i364_5 : J.cd 364 5 = some (.iconst 1, 6, 5, 0, 0) := by decide +kernel
theorem i364_6 : J.cd 364 6 = some (.goto 4, 9, 10, 0, 0) := by decide +kernel
theorem i364_9 : J.cd 364 9 = some (.iconst 0, 10, 9, 0, 0) := by decide +kernel
theorem i364_10 : J.cd 364 10 = some (.ireturn, 11, 0, 0, 3) := by decide +kernel
theorem b364_0 (d : Nat) (h : J.H) (Q : J.O → J.H → Prop) (x0 x1 : Int) : J.WP d 364 0 [J.R x0, J.R x1] [] h Q ↔ if x0 = x1 then (J.WP d 364 10 [J.R x0, J.R x1] [J.I 1] h Q) else (J.WP d 364 10 [J.R x0, J.R x1] [J.I 0] h Q) := by
  refine (J.r_aload i364_0 rfl).trans ?_
  refine (J.r_aload i364_1 rfl).trans ?_
  refine (J.r_acne i364_2).trans (J.ite2 ?_ ?_)
  · refine (J.r_iconst i364_5).trans ?_
    refine (J.r_goto i364_6).trans ?_
    exact Iff.rfl
  · refine (J.r_iconst i364_9).trans ?_
    exact Iff.rfl
theorem b364_10 (d : Nat) (h : J.H) (Q : J.O → J.H → Prop) (x0 x1 s0 : Int) : J.WP d 364 10 [J.R x0, J.R x1] [J.I s0] h Q ↔ (J.zo s0) ∧ Q (Sum.inl (some (J.I s0))) h := by
  exact J.r_iretZ i364_10 rfl
/-! 449 java/util/ArrayList.remove(I)Ljava/lang/Object; -/
theorem i449_0 : J.cd 449 0 = some (.iload 1, 1, 0, 0, 0) := by decide +kernel
theorem i449_1 : J.cd 449 1 = some (.aload 0, 2, 0, 0, 0) := by decide +kernel
theorem i449_2 : J.cd 449 2 = some (.getfield 48, 5, 20, 6, 0) := by decide +kernel
theorem i449_5 : J.cd 449 5 = some (.invokestatic 118, 8, 31, 2, 2) := by decide +kernel
theorem i449_8 : J.cd 449 8 = some (.pop, 9, 8, 0, 0) := by decide +kernel
theorem i449_9 : J.cd 449 9 = some (.aload 0, 10, 0, 0, 0) := by decide +kernel
theorem i449_10 : J.cd 449 10 = some (.getfield 9, 13, 19, 6, 2) := by decide +kernel
theorem i449_13 : J.cd 449 13 = some (.astore 2, 14, 0, 0, 0) := by decide +kernel
theorem i449_14 : J.cd 449 14 = some (.aload 2, 15, 0, 0, 0) := by decide +kernel
theorem i449_15 : J.cd 449 15 = some (.iload 1, 16, 0, 0, 0) := by decide +kernel
theorem i449_16 : J.cd 449 16 = some (.aaload, 17, 16, 0, 0) := by decide +kernel
theorem i449_17 : J.cd 449 17 = some (.astore 3, 18, 0, 0, 0) := by decide +kernel
theorem i449_18 : J.cd 449 18 = some (.aload 0, 19, 0, 0, 0) := by decide +kernel
theorem i449_19 : J.cd 449 19 = some (.aload 2, 20, 0, 0, 0) := by decide +kernel
theorem i449_20 : J.cd 449 20 = some (.iload 1, 21, 0, 0, 0) := by decide +kernel
theorem i449_21 : J.cd 449 21 = some (.invokevirtual 144, 24, 230, 2, 0) := by decide +kernel
theorem i449_24 : J.cd 449 24 = some (.aload 3, 25, 0, 0, 0) := by decide +kernel
theorem i449_25 : J.cd 449 25 = some (.areturn, 26, 25, 0, 0) := by decide +kernel
theorem b449_0 (d : Nat) (h : J.H) (Q : J.O → J.H → Prop) (x0 x1 : Int) : J.WP d 449 0 [J.R x0, J.I x1, J.U, J.U] [] h Q ↔ (J.sb (J.cl h x0) 6 = true) ∧ (0 < d ∧ J.WP (d - 1) 31 0 [J.I x1, J.I (J.gv h x0 20)] [] h (J.af J.WP d 449 5 8 [J.R x0, J.I x1, J.U, J.U] [] Q)) := by
  refine (J.r_iload i449_0 rfl).trans ?_
  refine (J.r_aload i449_1 rfl).trans ?_
  refine (J.r_getI i449_2).trans (and_congr_right fun q0 => ?_)
  exact J.r_stat i449_5 (by decide) (Nat.le_of_ble_eq_true rfl) rfl rfl (Nat.le_of_ble_eq_true rfl)
theorem b449_8 (d : Nat) (h : J.H) (Q : J.O → J.H → Prop) (x0 x1 s0 : Int) : J.WP d 449 8 [J.R x0, J.I x1, J.U, J.U] [J.I s0] h Q ↔ (J.sb (J.cl h x0) 6 = true) ∧ ((J.isA (J.cl h (J.gv h x0 19)) 2 = true ∧ J.rg x1 (J.ln h (J.gv h x0 19))) ∧ (J.cl h x0 = 6 ∧ 0 < d ∧ J.WP (d - 1) 450 0 [J.R x0, J.R (J.gv h x0 19), J.I x1, J.U] [] h (J.af J.WP d 449 21 24 [J.R x0, J.I x1, J.R (J.gv h x0 19), J.R (J.gv h (J.gv h x0 19) x1)] [] Q))) := by
  refine (J.r_popI i449_8).trans ?_
  refine (J.r_aload i449_9 rfl).trans ?_
  refine (J.r_getR i449_10).trans (and_congr_right fun q0 => ?_)
  refine (J.r_astore i449_13 (Nat.le_of_ble_eq_true rfl) rfl).trans ?_
  refine (J.r_aload i449_14 rfl).trans ?_
  refine (J.r_iload i449_15 rfl).trans ?_
  refine (J.r_aaload i449_16).trans (and_congr_right fun q1 => ?_)
  refine (J.r_astore i449_17 (Nat.le_of_ble_eq_true rfl) rfl).trans ?_
  refine (J.r_aload i449_18 rfl).trans ?_
  refine (J.r_aload i449_19 rfl).trans ?_
  refine (J.r_iload i449_20 rfl).trans ?_
  exact J.r_virt1 (k2 := 450) (m := 4) 6 i449_21 rfl (by decide +kernel) (by decide) rfl (Nat.le_of_ble_eq_true rfl)
theorem b449_24 (d : Nat) (h : J.H) (Q : J.O → J.H → Prop) (x0 x1 x2 x3 : Int) : J.WP d 449 24 [J.R x0, J.I x1, J.R x2, J.R x3] [] h Q ↔ Q (Sum.inl (some (J.R x3))) h := by
  refine (J.r_aload i449_24 rfl).trans ?_
  exact J.r_aret i449_25 rfl
/-! 450 java/util/ArrayList.fastRemove([Ljava/lang/Object;I)V -/
theorem i450_0 : J.cd 450 0 = some (.aload 0, 1, 0, 0, 0) := by decide +kernel
theorem i450_1 : J.cd 450 1 = some (.dup, 2, 1, 0, 0) := by decide +kernel
theorem i450_2 : J.cd 450 2 = some (.getfield 63, 5, 21, 87, 0) := by decide +kernel
theorem i450_5 : J.cd 450 5 = some (.iconst 1, 6, 5, 0, 0) := by decide +kernel
theorem i450_6 : J.cd 450 6 = some (.iadd, 7, 6, 0, 0) := by decide +kernel
theorem i450_7 : J.cd 450 7 = some (.putfield 63, 10, 21, 87, 0) := by decide +kernel
theorem i450_10 : J.cd 450 10 = some (.aload 0, 11, 0, 0, 0) := by decide +kernel
theorem i450_11 : J.cd 450 11 = some (.getfield 48, 14, 20, 6, 0) := by decide +kernel
theorem i450_14 : J.cd 450 14 = some (.iconst 1, 15, 14, 0, 0) := by decide +kernel
theorem i450_15 : J.cd 450 15 = some (.isub, 16, 15, 0, 0) := by decide +kernel
theorem i450_16 : J.cd 450 16 = some (.dup, 17, 16, 0, 0) := by decide +kernel
theorem i450_17 : J.cd 450 17 = some (.istore 3, 18, 0, 0, 0) := by decide +kernel
theorem i450_18 : J.cd 450 18 = some (.iload 2, 19, 0, 0, 0) := by decide +kernel
theorem i450_19 : J.cd 450 19 = some (.if_icmp .le 15, 22, 34, 0, 0) := by decide +kernel
theorem i450_22 : J.cd 450 22 = some (.aload 1, 23, 0, 0, 0) := by decide +kernel
theorem i450_23 : J.cd 450 23 = some (.iload 2, 24, 0, 0, 0) := by decide +kernel
theorem i450_24 : J.cd 450 24 = some (.iconst 1, 25, 24, 0, 0) := by decide +kernel
theorem i450_25 : J.cd 450 25 = some (.iadd, 26, 25, 0, 0) := by decide +kernel
theorem i450_26 : J.cd 450 26 = some (.aload 1, 27, 0, 0, 0) := by decide +kernel
theorem i450_27 : J.cd 450 27 = some (.iload 2, 28, 0, 0, 0) := by decide +kernel
theorem i450_28 : J.cd 450 28 = some (.iload 3, 29, 0, 0, 0) := by decide +kernel
theorem i450_29 : J.cd 450 29 = some (.iload 2, 30, 0, 0, 0) := by decide +kernel
theorem i450_30 : J.cd 450 30 = some (.isub, 31, 30, 0, 0) := by decide +kernel
theorem i450_31 : J.cd 450 31 = some (.invokestatic 112, 34, 2000, 5, 0) := by decide +kernel
theorem i450_34 : J.cd 450 34 = some (.aload 1, 35, 0, 0, 0) := by decide +kernel
theorem i450_35 : J.cd 450 35 = some (.aload 0, 36, 0, 0, 0) := by decide +kernel
theorem i450_36 : J.cd 450 36 = some (.iload 3, 37, 0, 0, 0) := by decide +kernel
theorem i450_37 : J.cd 450 37 = some (.dup_x1, 38, 37, 0, 0) := by decide +kernel
theorem i450_38 : J.cd 450 38 = some (.putfield 48, 41, 20, 6, 0) := by decide +kernel
theorem i450_41 : J.cd 450 41 = some (.aconst_null, 42, 41, 0, 0) := by decide +kernel
theorem i450_42 : J.cd 450 42 = some (.aastore, 43, 42, 0, 0) := by decide +kernel
theorem i450_43 : J.cd 450 43 = some (.return_, 44, 43, 0, 0) := by decide +kernel
theorem b450_0 (d : Nat) (h : J.H) (Q : J.O → J.H → Prop) (x0 x1 x2 : Int) : J.WP d 450 0 [J.R x0, J.R x1, J.I x2, J.U] [] h Q ↔ (J.sb (J.cl h x0) 87 = true) ∧ ((J.sb (J.cl h x0) 87 = true ∧ J.cl h x0 < 300) ∧ ((J.sb (J.cl h x0) 6 = true) ∧ (if (J.w32 ((J.gv (J.sv h x0 21 (J.w32 ((J.gv h x0 21) + 1))) x0 20) - 1)) ≤ x2 then (J.WP d 450 34 [J.R x0, J.R x1, J.I x2, J.I (J.w32 ((J.gv (J.sv h x0 21 (J.w32 ((J.gv h x0 21) + 1))) x0 20) - 1))] [] (J.sv h x0 21 (J.w32 ((J.gv h x0 21) + 1))) Q) else (((0 : Int) ≤ (J.w32 ((J.w32 ((J.gv (J.sv h x0 21 (J.w32 ((J.gv h x0 21) + 1))) x0 20) - 1)) - x2)) ∧ (0 : Int) ≤ (J.w32 (x2 + 1)) ∧ (0 : Int) ≤ x2 ∧ (J.w32 (x2 + 1)) + (J.w32 ((J.w32 ((J.gv (J.sv h x0 21 (J.w32 ((J.gv h x0 21) + 1))) x0 20) - 1)) - x2)) ≤ J.ln h x1 ∧ x2 + (J.w32 ((J.w32 ((J.gv (J.sv h x0 21 (J.w32 ((J.gv h x0 21) + 1))) x0 20) - 1)) - x2)) ≤ J.ln h x1 ∧ J.cl h x1 < 300 ∧ ((J.isA (J.cl h x1) 3 = true ∧ J.cl h x1 = 204 ∧ J.cl h x1 ≠ 203) ∨ (J.isA (J.cl h x1) 2 = true ∧ J.cl h x1 = 214 ∧ J.vld (J.sv h x0 21 (J.w32 ((J.gv h x0 21) + 1))) x1 (J.w32 (x2 + 1)) (J.w32 ((J.w32 ((J.gv (J.sv h x0 21 (J.w32 ((J.gv h x0 21) + 1))) x0 20) - 1)) - x2)) = true))) ∧ (J.WP d 450 34 [J.R x0, J.R x1, J.I x2, J.I (J.w32 ((J.gv (J.sv h x0 21 (J.w32 ((J.gv h x0 21) + 1))) x0 20) - 1))] [] (J.cpy (J.sv h x0 21 (J.w32 ((J.gv h x0 21) + 1))) x1 (J.w32 (x2 + 1)) x1 x2 (J.w32 ((J.w32 ((J.gv (J.sv h x0 21 (J.w32 ((J.gv h x0 21) + 1))) x0 20) - 1)) - x2))) Q))))) := by
  refine (J.r_aload i450_0 rfl).trans ?_
  refine (J.r_dupR i450_1).trans ?_
  refine (J.r_getI i450_2).trans (and_congr_right fun q0 => ?_)
  refine (J.r_iconst i450_5).trans ?_
  refine (J.r_iadd i450_6).trans ?_
  refine (J.r_putI i450_7).trans (and_congr_right fun q1 => ?_)
  refine (J.r_aload i450_10 rfl).trans ?_
  refine (J.r_getI i450_11).trans (and_congr_right fun q2 => ?_)
  refine (J.r_iconst i450_14).trans ?_
  refine (J.r_isub i450_15).trans ?_
  refine (J.r_dupI i450_16).trans ?_
  refine (J.r_istore i450_17 (Nat.le_of_ble_eq_true rfl) rfl).trans ?_
  refine (J.r_iload i450_18 rfl).trans ?_
  refine (J.r_icle i450_19).trans (J.ite2 ?_ ?_)
  · exact Iff.rfl
  · refine (J.r_aload i450_22 rfl).trans ?_
    refine (J.r_iload i450_23 rfl).trans ?_
    refine (J.r_iconst i450_24).trans ?_
    refine (J.r_iadd i450_25).trans ?_
    refine (J.r_aload i450_26 rfl).trans ?_
    refine (J.r_iload i450_27 rfl).trans ?_
    refine (J.r_iload i450_28 rfl).trans ?_
    refine (J.r_iload i450_29 rfl).trans ?_
    refine (J.r_isub i450_30).trans ?_
    refine (J.r_acopy i450_31).trans (and_congr_right fun q3 => ?_)
    exact Iff.rfl
theorem b450_34 (d : Nat) (h : J.H) (Q : J.O → J.H → Prop) (x0 x1 x2 x3 : Int) : J.WP d 450 34 [J.R x0, J.R x1, J.I x2, J.I x3] [] h Q ↔ (J.sb (J.cl h x0) 6 = true ∧ J.cl h x0 < 300) ∧ ((J.cl h x1 < 300 ∧ J.isA (J.cl h x1) 2 = true ∧ J.rg x3 (J.ln h x1) ∧ J.aok h x1 0) ∧ (Q (Sum.inl none) (J.sv (J.sv h x0 20 x3) x1 x3 0))) := by
  refine (J.r_aload i450_34 rfl).trans ?_
  refine (J.r_aload i450_35 rfl).trans ?_
  refine (J.r_iload i450_36 rfl).trans ?_
  refine (J.r_dupx1IR i450_37).trans ?_
  refine (J.r_putI i450_38).trans (and_congr_right fun q0 => ?_)
  refine (J.r_null i450_41).trans ?_
  refine (J.r_aastore i450_42).trans (and_congr_right fun q1 => ?_)
  exact J.r_ret i450_43 rfl
