set_option maxRecDepth 100000
/-! 4 java/lang/StringBuilder.<init>()V -/
theorem i4_0 : J.cd 4 0 = some (.aload 0, 1, 0, 0, 0) := by decide +kernel
theorem i4_1 : J.cd 4 1 = some (.iconst 16, 3, 0, 0, 0) := by decide +kernel
theorem i4_3 : J.cd 4 3 = some (.invokespecial 1, 6, 5, 2, 2) := by decide +kernel
theorem i4_6 : J.cd 4 6 = some (.return_, 7, 6, 0, 0) := by decide +kernel
theorem b4_0 (d : Nat) (h : J.H) (Q : J.O → J.H → Prop) (x0 : Int) : J.WP d 4 0 [J.R x0] [] h Q ↔ J.ik (J.cl h x0) = true ∧ 0 < d ∧ J.WP (d - 1) 5 0 [J.R x0, J.I 16] [] h (J.af J.WP d 4 3 6 [J.R x0] [] Q) := by
  refine (J.r_aload i4_0 rfl).trans ?_
  refine (J.r_iconst i4_1).trans ?_
  exact J.r_spec i4_3 (by decide) ⟨by decide, Nat.le_of_ble_eq_true rfl⟩ rfl rfl (Nat.le_of_ble_eq_true rfl)
theorem b4_6 (d : Nat) (h : J.H) (Q : J.O → J.H → Prop) (x0 : Int) : J.WP d 4 6 [J.R x0] [] h Q ↔ Q (Sum.inl none) h := by
  exact J.r_ret i4_6 rfl
/-! 5 java/lang/AbstractStringBuilder.<init>(I)V -/
theorem i5_0 : J.cd 5 0 = some (.aload 0, 1, 0, 0, 0) := by decide +kernel
theorem i5_1 : J.cd 5 1 = some (.invokespecial 3, 4, 2005, 1, 0) := by decide +kernel
theorem i5_4 : J.cd 5 4 = some (.getstatic 18, 7, 0, 0, 3) := by decide +kernel
theorem i5_7 : J.cd 5 7 = some (.ifCond .eq 18, 10, 25, 0, 0) := by decide +kernel
theorem i5_10 : J.cd 5 10 = some (.aload 0, 11, 0, 0, 0) := by decide +kernel
theorem i5_11 : J.cd 5 11 = some (.iload 1, 12, 0, 0, 0) := by decide +kernel
theorem i5_12 : J.cd 5 12 = some (.newarray .byte, 14, 12, 0, 0) := by decide +kernel
theorem i5_14 : J.cd 5 14 = some (.putfield 15, 17, 7, 86, 2) := by decide +kernel
theorem i5_17 : J.cd 5 17 = some (.aload 0, 18, 0, 0, 0) := by decide +kernel
theorem i5_18 : J.cd 5 18 = some (.iconst 0, 19, 18, 0, 0) := by decide +kernel
theorem i5_19 : J.cd 5 19 = some (.putfield 22, 22, 8, 86, 4) := by decide +kernel
theorem i5_22 : J.cd 5 22 = some (.goto 16, 25, 38, 0, 0) := by decide +kernel
theorem i5_25 : J.cd 5 25 = some (.aload 0, 26, 0, 0, 0) := by decide +kernel
theorem i5_26 : J.cd 5 26 = some (.iload 1, 27, 0, 0, 0) := by decide +kernel
theorem i5_27 : J.cd 5 27 = some (.invokestatic 26, 30, 6, 1, 1) := by decide +kernel
theorem i5_30 : J.cd 5 30 = some (.putfield 15, 33, 7, 86, 2) := by decide +kernel
theorem i5_33 : J.cd 5 33 = some (.aload 0, 34, 0, 0, 0) := by decide +kernel
theorem i5_34 : J.cd 5 34 = some (.iconst 1, 35, 34, 0, 0) := by decide +kernel
theorem i5_35 : J.cd 5 35 = some (.putfield 22, 38, 8, 86, 4) := by decide +kernel
theorem i5_38 : J.cd 5 38 = some (.return_, 39, 38, 0, 0) := by decide +kernel
theorem b5_0 (d : Nat) (h : J.H) (Q : J.O → J.H → Prop) (x0 x1 : Int) : J.WP d 5 0 [J.R x0, J.I x1] [] h Q ↔ (J.ik (J.cl h x0) = true) ∧ (if (J.gv h (-1) 0) = 0 then (0 < d ∧ J.WP (d - 1) 6 0 [J.I x1] [] h (J.af J.WP d 5 27 30 [J.R x0, J.I x1] [J.R x0] Q)) else ((0 ≤ x1 ∧ J.us h + 7 + x1 ≤ J.UM) ∧ ((J.sb (J.cl (J.nw h 204 x1 (7 + x1)) x0) 86 = true ∧ J.cl (J.nw h 204 x1 (7 + x1)) x0 < 300) ∧ ((J.sb (J.cl (J.nw h 204 x1 (7 + x1)) x0) 86 = true ∧ J.cl (J.nw h 204 x1 (7 + x1)) x0 < 300 ∧ J.br 0) ∧ (J.WP d 5 38 [J.R x0, J.I x1] [] (J.sv (J.sv (J.nw h 204 x1 (7 + x1)) x0 7 (J.nx h)) x0 8 0) Q))))) := by
  refine (J.r_aload i5_0 rfl).trans ?_
  refine (J.r_obj i5_1).trans (and_congr_right fun q0 => ?_)
  refine (J.r_getsZ i5_4).trans ?_
  refine (J.r_ifeq i5_7).trans (J.ite2 ?_ ?_)
  · refine (J.r_aload i5_25 rfl).trans ?_
    refine (J.r_iload i5_26 rfl).trans ?_
    exact J.r_stat i5_27 (by decide) (Nat.le_of_ble_eq_true rfl) rfl rfl (Nat.le_of_ble_eq_true rfl)
  · refine (J.r_aload i5_10 rfl).trans ?_
    refine (J.r_iload i5_11 rfl).trans ?_
    refine (J.r_newarray i5_12).trans (and_congr_right fun q1 => ?_)
    refine (J.r_putR i5_14).trans (and_congr_right fun q2 => ?_)
    refine (J.r_aload i5_17 rfl).trans ?_
    refine (J.r_iconst i5_18).trans ?_
    refine (J.r_putB i5_19).trans (and_congr_right fun q3 => ?_)
    refine (J.r_goto i5_22).trans ?_
    exact Iff.rfl
theorem b5_30 (d : Nat) (h : J.H) (Q : J.O → J.H → Prop) (x0 x1 s0 s1 : Int) : J.WP d 5 30 [J.R x0, J.I x1] [J.R s1, J.R s0] h Q ↔ (J.sb (J.cl h s0) 86 = true ∧ J.cl h s0 < 300) ∧ ((J.sb (J.cl h x0) 86 = true ∧ J.cl h x0 < 300 ∧ J.br 1) ∧ (J.WP d 5 38 [J.R x0, J.I x1] [] (J.sv (J.sv h s0 7 s1) x0 8 1) Q)) := by
  refine (J.r_putR i5_30).trans (and_congr_right fun q0 => ?_)
  refine (J.r_aload i5_33 rfl).trans ?_
  refine (J.r_iconst i5_34).trans ?_
  refine (J.r_putB i5_35).trans (and_congr_right fun q1 => ?_)
  exact Iff.rfl
theorem b5_38 (d : Nat) (h : J.H) (Q : J.O → J.H → Prop) (x0 x1 : Int) : J.WP d 5 38 [J.R x0, J.I x1] [] h Q ↔ Q (Sum.inl none) h := by
  exact J.r_ret i5_38 rfl
/-! 6 java/lang/StringUTF16.newBytesFor(I)[B -/
theorem i6_0 : J.cd 6 0 = some (.iload 0, 1, 0, 0, 0) := by decide +kernel
theorem i6_1 : J.cd 6 1 = some (.invokestatic 11, 4, 7, 1, 1) := by decide +kernel
theorem i6_4 : J.cd 6 4 = some (.newarray .byte, 6, 4, 0, 0) := by decide +kernel
theorem i6_6 : J.cd 6 6 = some (.areturn, 7, 6, 0, 0) := by decide +kernel
theorem b6_0 (d : Nat) (h : J.H) (Q : J.O → J.H → Prop) (x0 : Int) : J.WP d 6 0 [J.I x0] [] h Q ↔ 0 < d ∧ J.WP (d - 1) 7 0 [J.I x0] [] h (J.af J.WP d 6 1 4 [J.I x0] [] Q) := by
  refine (J.r_iload i6_0 rfl).trans ?_
  exact J.r_stat i6_1 (by decide) (Nat.le_of_ble_eq_true rfl) rfl rfl (Nat.le_of_ble_eq_true rfl)
theorem b6_4 (d : Nat) (h : J.H) (Q : J.O → J.H → Prop) (x0 s0 : Int) : J.WP d 6 4 [J.I x0] [J.I s0] h Q ↔ (0 ≤ s0 ∧ J.us h + 7 + s0 ≤ J.UM) ∧ (Q (Sum.inl (some (J.R (J.nx h)))) (J.nw h 204 s0 (7 + s0))) := by
  refine (J.r_newarray i6_4).trans (and_congr_right fun q0 => ?_)
  exact J.r_aret i6_6 rfl
/-! 7 java/lang/StringUTF16.newBytesLength(I)I -/
theorem i7_0 : J.cd 7 0 = some (.iload 0, 1, 0, 0, 0) := by decide +kernel
theorem i7_1 : J.cd 7 1 = some (.ifCond .ge 11, 4, 12, 0, 0) := by decide +kernel
theorem i7_12 : J.cd 7 12 = some (.iload 0, 13, 0, 0, 0) := by decide +kernel
theorem i7_13 : J.cd 7 13 = some (.ldc 20, 15, 0, 0, 1073741823) := by decide +kernel
theorem i7_15 : J.cd 7 15 = some (.if_icmp .lt 40, 18, 55, 0, 0) := by decide +kernel
theorem i7_55 : J.cd 7 55 = some (.iload 0, 56, 0, 0, 0) := by decide +kernel
theorem i7_56 : J.cd 7 56 = some (.iconst 1, 57, 56, 0, 0) := by decide +kernel
theorem i7_57 : J.cd 7 57 = some (.ishl, 58, 57, 0, 0) := by decide +kernel
theorem i7_58 : J.cd 7 58 = some (.ireturn, 59, 0, 0, 0) := by decide +kernel
theorem b7_0 (d : Nat) (h : J.H) (Q : J.O → J.H → Prop) (x0 : Int) : J.WP d 7 0 [J.I x0] [] h Q ↔ if x0 < 0 then (J.WP d 7 4 [J.I x0] [] h Q) else (if x0 < 1073741823 then (Q (Sum.inl (some (J.I (J.shl32 x0 1)))) h) else (J.WP d 7 18 [J.I x0] [] h Q)) := by
  refine (J.r_iload i7_0 rfl).trans ?_
  refine (J.r_ifge i7_1).trans (J.ite2 ?_ ?_)
  · exact Iff.rfl
  · refine (J.r_iload i7_12 rfl).trans ?_
    refine (J.r_ldc i7_13).trans ?_
    refine (J.r_iclt i7_15).trans (J.ite2 ?_ ?_)
    · refine (J.r_iload i7_55 rfl).trans ?_
      refine (J.r_iconst i7_56).trans ?_
      refine (J.r_ishl i7_57).trans ?_
      exact J.r_iret i7_58 rfl
    · exact Iff.rfl
/-! 76 java/lang/StringBuilder.setLength(I)V -/
theorem i76_0 : J.cd 76 0 = some (.aload 0, 1, 0, 0, 0) := by decide +kernel
theorem i76_1 : J.cd 76 1 = some (.iload 1, 2, 0, 0, 0) := by decide +kernel
theorem i76_2 : J.cd 76 2 = some (.invokespecial 333, 5, 77, 2, 2) := by decide +kernel
theorem i76_5 : J.cd 76 5 = some (.return_, 6, 5, 0, 0) := by decide +kernel
theorem b76_0 (d : Nat) (h : J.H) (Q : J.O → J.H → Prop) (x0 x1 : Int) : J.WP d 76 0 [J.R x0, J.I x1] [] h Q ↔ J.ik (J.cl h x0) = true ∧ 0 < d ∧ J.WP (d - 1) 77 0 [J.R x0, J.I x1] [] h (J.af J.WP d 76 2 5 [J.R x0, J.I x1] [] Q) := by
  refine (J.r_aload i76_0 rfl).trans ?_
  refine (J.r_iload i76_1 rfl).trans ?_
  exact J.r_spec i76_2 (by decide) ⟨by decide, Nat.le_of_ble_eq_true rfl⟩ rfl rfl (Nat.le_of_ble_eq_true rfl)
theorem b76_5 (d : Nat) (h : J.H) (Q : J.O → J.H → Prop) (x0 x1 : Int) : J.WP d 76 5 [J.R x0, J.I x1] [] h Q ↔ Q (Sum.inl none) h := by
  exact J.r_ret i76_5 rfl
/-! 77 java/lang/AbstractStringBuilder.setLength(I)V -/
theorem i77_0 : J.cd 77 0 = some (.iload 1, 1, 0, 0, 0) := by decide +kernel
theorem i77_1 : J.cd 77 1 = some (.ifCond .ge 12, 4, 13, 0, 0) := by decide +kernel
theorem i77_13 : J.cd 77 13 = some (.aload 0, 14, 0, 0, 0) := by decide +kernel
theorem i77_14 : J.cd 77 14 = some (.iload 1, 15, 0, 0, 0) := by decide +kernel
theorem i77_15 : J.cd 77 15 = some (.invokevirtual 100, 18, 199, 1, 0) := by decide +kernel
theorem i77_18 : J.cd 77 18 = some (.aload 0, 19, 0, 0, 0) := by decide +kernel
theorem i77_19 : J.cd 77 19 = some (.getfield 79, 22, 10, 86, 0) := by decide +kernel
theorem i77_22 : J.cd 77 22 = some (.iload 1, 23, 0, 0, 0) := by decide +kernel
theorem i77_23 : J.cd 77 23 = some (.if_icmp .ge 40, 26, 63, 0, 0) := by decide +kernel
theorem i77_26 : J.cd 77 26 = some (.aload 0, 27, 0, 0, 0) := by decide +kernel
theorem i77_27 : J.cd 77 27 = some (.invokevirtual 83, 30, 201, 0, 0) := by decide +kernel
theorem i77_30 : J.cd 77 30 = some (.ifCond .eq 18, 33, 48, 0, 0) := by decide +kernel
theorem i77_33 : J.cd 77 33 = some (.aload 0, 34, 0, 0, 0) := by decide +kernel
theorem i77_34 : J.cd 77 34 = some (.getfield 15, 37, 7, 86, 2) := by decide +kernel
theorem i77_37 : J.cd 77 37 = some (.aload 0, 38, 0, 0, 0) := by decide +kernel
theorem i77_38 : J.cd 77 38 = some (.getfield 79, 41, 10, 86, 0) := by decide +kernel
theorem i77_41 : J.cd 77 41 = some (.iload 1, 42, 0, 0, 0) := by decide +kernel
theorem i77_42 : J.cd 77 42 = some (.invokestatic 133, 45, 82, 3, 3) := by decide +kernel
theorem i77_45 : J.cd 77 45 = some (.goto 31, 48, 76, 0, 0) := by decide +kernel
theorem i77_48 : J.cd 77 48 = some (.aload 0, 49, 0, 0, 0) := by decide +kernel
theorem i77_49 : J.cd 77 49 = some (.getfield 15, 52, 7, 86, 2) := by decide +kernel
theorem i77_52 : J.cd 77 52 = some (.aload 0, 53, 0, 0, 0) := by decide +kernel
theorem i77_53 : J.cd 77 53 = some (.getfield 79, 56, 10, 86, 0) := by decide +kernel
theorem i77_56 : J.cd 77 56 = some (.iload 1, 57, 0, 0, 0) := by decide +kernel
theorem i77_57 : J.cd 77 57 = some (.invokestatic 137, 60, 128, 3, 3) := by decide +kernel
theorem i77_60 : J.cd 77 60 = some (.goto 16, 63, 76, 0, 0) := by decide +kernel
theorem i77_63 : J.cd 77 63 = some (.aload 0, 64, 0, 0, 0) := by decide +kernel
theorem i77_64 : J.cd 77 64 = some (.getfield 79, 67, 10, 86, 0) := by decide +kernel
theorem i77_67 : J.cd 77 67 = some (.iload 1, 68, 0, 0, 0) := by decide +kernel
theorem i77_68 : J.cd 77 68 = some (.if_icmp .le 8, 71, 76, 0, 0) := by decide +kernel
theorem i77_71 : J.cd 77 71 = some (.aload 0, 72, 0, 0, 0) := by decide +kernel
theorem i77_72 : J.cd 77 72 = some (.iconst 1, 73, 72, 0, 0) := by decide +kernel
theorem i77_73 : J.cd 77 73 = some (.putfield 73, 76, 9, 86, 3) := by decide +kernel
theorem i77_76 : J.cd 77 76 = some (.aload 0, 77, 0, 0, 0) := by decide +kernel
theorem i77_77 : J.cd 77 77 = some (.iload 1, 78, 0, 0, 0) := by decide +kernel
theorem i77_78 : J.cd 77 78 = some (.putfield 79, 81, 10, 86, 0) := by decide +kernel
theorem i77_81 : J.cd 77 81 = some (.return_, 82, 81, 0, 0) := by decide +kernel
theorem b77_0 (d : Nat) (h : J.H) (Q : J.O → J.H → Prop) (x0 x1 : Int) : J.WP d 77 0 [J.R x0, J.I x1] [] h Q ↔ if x1 < 0 then (J.WP d 77 4 [J.R x0, J.I x1] [] h Q) else (J.cl h x0 = 4 ∧ 0 < d ∧ J.WP (d - 1) 78 0 [J.R x0, J.I x1, J.U] [] h (J.af J.WP d 77 15 18 [J.R x0, J.I x1] [] Q)) := by
  refine (J.r_iload i77_0 rfl).trans ?_
  refine (J.r_ifge i77_1).trans (J.ite2 ?_ ?_)
  · exact Iff.rfl
  · refine (J.r_aload i77_13 rfl).trans ?_
    refine (J.r_iload i77_14 rfl).trans ?_
    exact J.r_virt1 (k2 := 78) (m := 3) 4 i77_15 rfl (by decide +kernel) (by decide) rfl (Nat.le_of_ble_eq_true rfl)
theorem b77_18 (d : Nat) (h : J.H) (Q : J.O → J.H → Prop) (x0 x1 : Int) : J.WP d 77 18 [J.R x0, J.I x1] [] h Q ↔ (J.sb (J.cl h x0) 86 = true) ∧ (if (J.gv h x0 10) < x1 then (J.cl h x0 = 4 ∧ 0 < d ∧ J.WP (d - 1) 81 0 [J.R x0] [] h (J.af J.WP d 77 27 30 [J.R x0, J.I x1] [] Q)) else (if (J.gv h x0 10) ≤ x1 then (J.WP d 77 76 [J.R x0, J.I x1] [] h Q) else ((J.sb (J.cl h x0) 86 = true ∧ J.cl h x0 < 300 ∧ J.zo 1) ∧ (J.WP d 77 76 [J.R x0, J.I x1] [] (J.sv h x0 9 1) Q)))) := by
  refine (J.r_aload i77_18 rfl).trans ?_
  refine (J.r_getI i77_19).trans (and_congr_right fun q0 => ?_)
  refine (J.r_iload i77_22 rfl).trans ?_
  refine (J.r_icge i77_23).trans (J.ite2 ?_ ?_)
  · refine (J.r_aload i77_26 rfl).trans ?_
    exact J.r_virt1 (k2 := 81) (m := 1) 4 i77_27 rfl (by decide +kernel) (by decide) rfl (Nat.le_of_ble_eq_true rfl)
  · refine (J.r_aload i77_63 rfl).trans ?_
    refine (J.r_getI i77_64).trans ((J.tru q0).trans ?_)
    refine (J.r_iload i77_67 rfl).trans ?_
    refine (J.r_icle i77_68).trans (J.ite2 ?_ ?_)
    · exact Iff.rfl
    · refine (J.r_aload i77_71 rfl).trans ?_
      refine (J.r_iconst i77_72).trans ?_
      refine (J.r_putZ i77_73).trans (and_congr_right fun q1 => ?_)
      exact Iff.rfl
theorem b77_30 (d : Nat) (h : J.H) (Q : J.O → J.H → Prop) (x0 x1 s0 : Int) : J.WP d 77 30 [J.R x0, J.I x1] [J.I s0] h Q ↔ if s0 = 0 then ((J.sb (J.cl h x0) 86 = true) ∧ (0 < d ∧ J.WP (d - 1) 128 0 [J.R (J.gv h x0 7), J.I (J.gv h x0 10), J.I x1] [] h (J.af J.WP d 77 57 60 [J.R x0, J.I x1] [] Q))) else ((J.sb (J.cl h x0) 86 = true) ∧ (0 < d ∧ J.WP (d - 1) 82 0 [J.R (J.gv h x0 7), J.I (J.gv h x0 10), J.I x1] [] h (J.af J.WP d 77 42 45 [J.R x0, J.I x1] [] Q))) := by
  refine (J.r_ifeq i77_30).trans (J.ite2 ?_ ?_)
  · refine (J.r_aload i77_48 rfl).trans ?_
    refine (J.r_getR i77_49).trans (and_congr_right fun q0 => ?_)
    refine (J.r_aload i77_52 rfl).trans ?_
    refine (J.r_getI i77_53).trans ((J.tru q0).trans ?_)
    refine (J.r_iload i77_56 rfl).trans ?_
    exact J.r_stat i77_57 (by decide) (Nat.le_of_ble_eq_true rfl) rfl rfl (Nat.le_of_ble_eq_true rfl)
  · refine (J.r_aload i77_33 rfl).trans ?_
    refine (J.r_getR i77_34).trans (and_congr_right fun q0 => ?_)
    refine (J.r_aload i77_37 rfl).trans ?_
    refine (J.r_getI i77_38).trans ((J.tru q0).trans ?_)
    refine (J.r_iload i77_41 rfl).trans ?_
    exact J.r_stat i77_42 (by decide) (Nat.le_of_ble_eq_true rfl) rfl rfl (Nat.le_of_ble_eq_true rfl)
theorem b77_45 (d : Nat) (h : J.H) (Q : J.O → J.H → Prop) (x0 x1 : Int) : J.WP d 77 45 [J.R x0, J.I x1] [] h Q ↔ J.WP d 77 76 [J.R x0, J.I x1] [] h Q := by
  refine (J.r_goto i77_45).trans ?_
  exact Iff.rfl
theorem b77_60 (d : Nat) (h : J.H) (Q : J.O → J.H → Prop) (x0 x1 : Int) : J.WP d 77 60 [J.R x0, J.I x1] [] h Q ↔ J.WP d 77 76 [J.R x0, J.I x1] [] h Q := by
  refine (J.r_goto i77_60).trans ?_
  exact Iff.rfl
theorem b77_76 (d : Nat) (h : J.H) (Q : J.O → J.H → Prop) (x0 x1 : Int) : J.WP d 77 76 [J.R x0, J.I x1] [] h Q ↔ (J.sb (J.cl h x0) 86 = true ∧ J.cl h x0 < 300) ∧ (Q (Sum.inl none) (J.sv h x0 10 x1)) := by
  refine (J.r_aload i77_76 rfl).trans ?_
  refine (J.r_iload i77_77 rfl).trans ?_
  refine (J.r_putI i77_78).trans (and_congr_right fun q0 => ?_)
  exact J.r_ret i77_81 rfl
/-! 78 java/lang/AbstractStringBuilder.ensureCapacityInternal(I)V -/
theorem i78_0 : J.cd 78 0 = some (.aload 0, 1, 0, 0, 0) := by decide +kernel
theorem i78_1 : J.cd 78 1 = some (.getfield 15, 4, 7, 86, 2) := by decide +kernel
theorem i78_4 : J.cd 78 4 = some (.arraylength, 5, 4, 0, 0) := by decide +kernel
theorem i78_5 : J.cd 78 5 = some (.aload 0, 6, 0, 0, 0) := by decide +kernel
theorem i78_6 : J.cd 78 6 = some (.getfield 22, 9, 8, 86, 4) := by decide +kernel
theorem i78_9 : J.cd 78 9 = some (.ishr, 10, 9, 0, 0) := by decide +kernel
theorem i78_10 : J.cd 78 10 = some (.istore 2, 11, 0, 0, 0) := by decide +kernel
theorem i78_11 : J.cd 78 11 = some (.iload 1, 12, 0, 0, 0) := by decide +kernel
theorem i78_12 : J.cd 78 12 = some (.iload 2, 13, 0, 0, 0) := by decide +kernel
theorem i78_13 : J.cd 78 13 = some (.isub, 14, 13, 0, 0) := by decide +kernel
theorem i78_14 : J.cd 78 14 = some (.ifCond .le 24, 17, 38, 0, 0) := by decide +kernel
theorem i78_17 : J.cd 78 17 = some (.aload 0, 18, 0, 0, 0) := by decide +kernel
theorem i78_18 : J.cd 78 18 = some (.aload 0, 19, 0, 0, 0) := by decide +kernel
theorem i78_19 : J.cd 78 19 = some (.getfield 15, 22, 7, 86, 2) := by decide +kernel
theorem i78_22 : J.cd 78 22 = some (.aload 0, 23, 0, 0, 0) := by decide +kernel
theorem i78_23 : J.cd 78 23 = some (.iload 1, 24, 0, 0, 0) := by decide +kernel
theorem i78_24 : J.cd 78 24 = some (.invokevirtual 104, 27, 200, 1, 0) := by decide +kernel
theorem i78_27 : J.cd 78 27 = some (.aload 0, 28, 0, 0, 0) := by decide +kernel
theorem i78_28 : J.cd 78 28 = some (.getfield 22, 31, 8, 86, 4) := by decide +kernel
theorem i78_31 : J.cd 78 31 = some (.ishl, 32, 31, 0, 0) := by decide +kernel
theorem i78_32 : J.cd 78 32 = some (.invokestatic 108, 35, 80, 2, 3) := by decide +kernel
theorem i78_35 : J.cd 78 35 = some (.putfield 15, 38, 7, 86, 2) := by decide +kernel
theorem i78_38 : J.cd 78 38 = some (.return_, 39, 38, 0, 0) := by decide +kernel
theorem b78_0 (d : Nat) (h : J.H) (Q : J.O → J.H → Prop) (x0 x1 : Int) : J.WP d 78 0 [J.R x0, J.I x1, J.U] [] h Q ↔ (J.sb (J.cl h x0) 86 = true) ∧ ((J.ia (J.cl h (J.gv h x0 7)) = true) ∧ (if (J.w32 (x1 - (J.shr32 (J.ln h (J.gv h x0 7)) (J.gv h x0 8)))) ≤ 0 then (J.WP d 78 38 [J.R x0, J.I x1, J.I (J.shr32 (J.ln h (J.gv h x0 7)) (J.gv h x0 8))] [] h Q) else (J.cl h x0 = 4 ∧ 0 < d ∧ J.WP (d - 1) 79 0 [J.R x0, J.I x1, J.U, J.U, J.U, J.U] [] h (J.af J.WP d 78 24 27 [J.R x0, J.I x1, J.I (J.shr32 (J.ln h (J.gv h x0 7)) (J.gv h x0 8))] [J.R (J.gv h x0 7), J.R x0] Q)))) := by
  refine (J.r_aload i78_0 rfl).trans ?_
  refine (J.r_getR i78_1).trans (and_congr_right fun q0 => ?_)
  refine (J.r_alen i78_4).trans (and_congr_right fun q1 => ?_)
  refine (J.r_aload i78_5 rfl).trans ?_
  refine (J.r_getB i78_6).trans ((J.tru q0).trans ?_)
  refine (J.r_ishr i78_9).trans ?_
  refine (J.r_istore i78_10 (Nat.le_of_ble_eq_true rfl) rfl).trans ?_
  refine (J.r_iload i78_11 rfl).trans ?_
  refine (J.r_iload i78_12 rfl).trans ?_
  refine (J.r_isub i78_13).trans ?_
  refine (J.r_ifle i78_14).trans (J.ite2 ?_ ?_)
  · exact Iff.rfl
  · refine (J.r_aload i78_17 rfl).trans ?_
    refine (J.r_aload i78_18 rfl).trans ?_
    refine (J.r_getR i78_19).trans ((J.tru q0).trans ?_)
    refine (J.r_aload i78_22 rfl).trans ?_
    refine (J.r_iload i78_23 rfl).trans ?_
    exact J.r_virt1 (k2 := 79) (m := 6) 4 i78_24 rfl (by decide +kernel) (by decide) rfl (Nat.le_of_ble_eq_true rfl)
theorem b78_27 (d : Nat) (h : J.H) (Q : J.O → J.H → Prop) (x0 x1 x2 s0 s1 s2 : Int) : J.WP d 78 27 [J.R x0, J.I x1, J.I x2] [J.I s2, J.R s1, J.R s0] h Q ↔ (J.sb (J.cl h x0) 86 = true) ∧ (0 < d ∧ J.WP (d - 1) 80 0 [J.R s1, J.I (J.shl32 s2 (J.gv h x0 8)), J.U] [] h (J.af J.WP d 78 32 35 [J.R x0, J.I x1, J.I x2] [J.R s0] Q)) := by
  refine (J.r_aload i78_27 rfl).trans ?_
  refine (J.r_getB i78_28).trans (and_congr_right fun q0 => ?_)
  refine (J.r_ishl i78_31).trans ?_
  exact J.r_stat i78_32 (by decide) (Nat.le_of_ble_eq_true rfl) rfl rfl (Nat.le_of_ble_eq_true rfl)
theorem b78_35 (d : Nat) (h : J.H) (Q : J.O → J.H → Prop) (x0 x1 x2 s0 s1 : Int) : J.WP d 78 35 [J.R x0, J.I x1, J.I x2] [J.R s1, J.R s0] h Q ↔ (J.sb (J.cl h s0) 86 = true ∧ J.cl h s0 < 300) ∧ (J.WP d 78 38 [J.R x0, J.I x1, J.I x2] [] (J.sv h s0 7 s1) Q) := by
  refine (J.r_putR i78_35).trans (and_congr_right fun q0 => ?_)
  exact Iff.rfl
theorem b78_38 (d : Nat) (h : J.H) (Q : J.O → J.H → Prop) (x0 x1 x2 : Int) : J.WP d 78 38 [J.R x0, J.I x1, J.I x2] [] h Q ↔ Q (Sum.inl none) h := by
  exact J.r_ret i78_38 rfl
/-! 79 java/lang/AbstractStringBuilder.newCapacity(I)I -/
theorem i79_0 : J.cd 79 0 = some (.aload 0, 1, 0, 0, 0) := by decide +kernel
theorem i79_1 : J.cd 79 1 = some (.getfield 15, 4, 7, 86, 2) := by decide +kernel
theorem i79_4 : J.cd 79 4 = some (.arraylength, 5, 4, 0, 0) := by decide +kernel
theorem i79_5 : J.cd 79 5 = some (.istore 2, 6, 0, 0, 0) := by decide +kernel
theorem i79_6 : J.cd 79 6 = some (.iload 1, 7, 0, 0, 0) := by decide +kernel
theorem i79_7 : J.cd 79 7 = some (.aload 0, 8, 0, 0, 0) := by decide +kernel
theorem i79_8 : J.cd 79 8 = some (.getfield 22, 11, 8, 86, 4) := by decide +kernel
theorem i79_11 : J.cd 79 11 = some (.ishl, 12, 11, 0, 0) := by decide +kernel
theorem i79_12 : J.cd 79 12 = some (.istore 3, 13, 0, 0, 0) := by decide +kernel
theorem i79_13 : J.cd 79 13 = some (.iload 3, 14, 0, 0, 0) := by decide +kernel
theorem i79_14 : J.cd 79 14 = some (.iload 2, 15, 0, 0, 0) := by decide +kernel
theorem i79_15 : J.cd 79 15 = some (.isub, 16, 15, 0, 0) := by decide +kernel
theorem i79_16 : J.cd 79 16 = some (.istore 4, 18, 16, 0, 0) := by decide +kernel
theorem i79_18 : J.cd 79 18 = some (.iload 2, 19, 0, 0, 0) := by decide +kernel
theorem i79_19 : J.cd 79 19 = some (.iload 4, 21, 19, 0, 0) := by decide +kernel
theorem i79_21 : J.cd 79 21 = some (.iload 2, 22, 0, 0, 0) := by decide +kernel
theorem i79_22 : J.cd 79 22 = some (.iconst 2, 23, 22, 0, 0) := by decide +kernel
theorem i79_23 : J.cd 79 23 = some (.aload 0, 24, 0, 0, 0) := by decide +kernel
theorem i79_24 : J.cd 79 24 = some (.getfield 22, 27, 8, 86, 4) := by decide +kernel
theorem i79_27 : J.cd 79 27 = some (.ishl, 28, 27, 0, 0) := by decide +kernel
theorem i79_28 : J.cd 79 28 = some (.iadd, 29, 28, 0, 0) := by decide +kernel
theorem i79_29 : J.cd 79 29 = some (.invokestatic 114, 32, 21, 3, 4) := by decide +kernel
theorem i79_32 : J.cd 79 32 = some (.istore 5, 34, 32, 0, 0) := by decide +kernel
theorem i79_34 : J.cd 79 34 = some (.iload 5, 36, 34, 0, 0) := by decide +kernel
theorem i79_36 : J.cd 79 36 = some (.ldc 39, 38, 0, 0, 2147483647) := by decide +kernel
theorem i79_38 : J.cd 79 38 = some (.if_icmp .ne 13, 41, 51, 0, 0) := by decide +kernel
theorem i79_51 : J.cd 79 51 = some (.iload 5, 53, 51, 0, 0) := by decide +kernel
theorem i79_53 : J.cd 79 53 = some (.aload 0, 54, 0, 0, 0) := by decide +kernel
theorem i79_54 : J.cd 79 54 = some (.getfield 22, 57, 8, 86, 4) := by decide +kernel
theorem i79_57 : J.cd 79 57 = some (.ishr, 58, 57, 0, 0) := by decide +kernel
theorem i79_58 : J.cd 79 58 = some (.ireturn, 59, 0, 0, 0) := by decide +kernel
theorem b79_0 (d : Nat) (h : J.H) (Q : J.O → J.H → Prop) (x0 x1 : Int) : J.WP d 79 0 [J.R x0, J.I x1, J.U, J.U, J.U, J.U] [] h Q ↔ (J.sb (J.cl h x0) 86 = true) ∧ ((J.ia (J.cl h (J.gv h x0 7)) = true) ∧ (0 < d ∧ J.WP (d - 1) 21 0 [J.I (J.ln h (J.gv h x0 7)), J.I (J.w32 ((J.shl32 x1 (J.gv h x0 8)) - (J.ln h (J.gv h x0 7)))), J.I (J.w32 ((J.ln h (J.gv h x0 7)) + (J.shl32 2 (J.gv h x0 8)))), J.U] [] h (J.af J.WP d 79 29 32 [J.R x0, J.I x1, J.I (J.ln h (J.gv h x0 7)), J.I (J.shl32 x1 (J.gv h x0 8)), J.I (J.w32 ((J.shl32 x1 (J.gv h x0 8)) - (J.ln h (J.gv h x0 7)))), J.U] [] Q))) := by
  refine (J.r_aload i79_0 rfl).trans ?_
  refine (J.r_getR i79_1).trans (and_congr_right fun q0 => ?_)
  refine (J.r_alen i79_4).trans (and_congr_right fun q1 => ?_)
  refine (J.r_istore i79_5 (Nat.le_of_ble_eq_true rfl) rfl).trans ?_
  refine (J.r_iload i79_6 rfl).trans ?_
  refine (J.r_aload i79_7 rfl).trans ?_
  refine (J.r_getB i79_8).trans ((J.tru q0).trans ?_)
  refine (J.r_ishl i79_11).trans ?_
  refine (J.r_istore i79_12 (Nat.le_of_ble_eq_true rfl) rfl).trans ?_
  refine (J.r_iload i79_13 rfl).trans ?_
  refine (J.r_iload i79_14 rfl).trans ?_
  refine (J.r_isub i79_15).trans ?_
  refine (J.r_istore i79_16 (Nat.le_of_ble_eq_true rfl) rfl).trans ?_
  refine (J.r_iload i79_18 rfl).trans ?_
  refine (J.r_iload i79_19 rfl).trans ?_
  refine (J.r_iload i79_21 rfl).trans ?_
  refine (J.r_iconst i79_22).trans ?_
  refine (J.r_aload i79_23 rfl).trans ?_
  refine (J.r_getB i79_24).trans ((J.tru q0).trans ?_)
  refine (J.r_ishl i79_27).trans ?_
  refine (J.r_iadd i79_28).trans ?_
  exact J.r_stat i79_29 (by decide) (Nat.le_of_ble_eq_true rfl) rfl rfl (Nat.le_of_ble_eq_true rfl)
theorem b79_32 (d : Nat) (h : J.H) (Q : J.O → J.H → Prop) (x0 x1 x2 x3 x4 s0 : Int) : J.WP d 79 32 [J.R x0, J.I x1, J.I x2, J.I x3, J.I x4, J.U] [J.I s0] h Q ↔ if s0 = 2147483647 then (J.WP d 79 41 [J.R x0, J.I x1, J.I x2, J.I x3, J.I x4, J.I s0] [] h Q) else ((J.sb (J.cl h x0) 86 = true) ∧ (Q (Sum.inl (some (J.I (J.shr32 s0 (J.gv h x0 8))))) h)) := by
  refine (J.r_istore i79_32 (Nat.le_of_ble_eq_true rfl) rfl).trans ?_
  refine (J.r_iload i79_34 rfl).trans ?_
  refine (J.r_ldc i79_36).trans ?_
  refine (J.r_icne i79_38).trans (J.ite2 ?_ ?_)
  · exact Iff.rfl
  · refine (J.r_iload i79_51 rfl).trans ?_
    refine (J.r_aload i79_53 rfl).trans ?_
    refine (J.r_getB i79_54).trans (and_congr_right fun q0 => ?_)
    refine (J.r_ishr i79_57).trans ?_
    exact J.r_iret i79_58 rfl
/-! 80 java/util/Arrays.copyOf([BI)[B -/
theorem i80_0 : J.cd 80 0 = some (.iload 1, 1, 0, 0, 0) := by decide +kernel
theorem i80_1 : J.cd 80 1 = some (.aload 0, 2, 0, 0, 0) := by decide +kernel
theorem i80_2 : J.cd 80 2 = some (.arraylength, 3, 2, 0, 0) := by decide +kernel
theorem i80_3 : J.cd 80 3 = some (.if_icmp .ne 11, 6, 14, 0, 0) := by decide +kernel
theorem i80_6 : J.cd 80 6 = some (.aload 0, 7, 0, 0, 0) := by decide +kernel
theorem i80_7 : J.cd 80 7 = some (.invokevirtual 310, 10, 9004, 0, 0) := by decide +kernel
theorem i80_10 : J.cd 80 10 = some (.checkcast 311, 13, 204, 0, 0) := by decide +kernel
theorem i80_13 : J.cd 80 13 = some (.areturn, 14, 13, 0, 0) := by decide +kernel
theorem i80_14 : J.cd 80 14 = some (.iload 1, 15, 0, 0, 0) := by decide +kernel
theorem i80_15 : J.cd 80 15 = some (.newarray .byte, 17, 15, 0, 0) := by decide +kernel
theorem i80_17 : J.cd 80 17 = some (.astore 2, 18, 0, 0, 0) := by decide +kernel
theorem i80_18 : J.cd 80 18 = some (.aload 0, 19, 0, 0, 0) := by decide +kernel
theorem i80_19 : J.cd 80 19 = some (.iconst 0, 20, 19, 0, 0) := by decide +kernel
theorem i80_20 : J.cd 80 20 = some (.aload 2, 21, 0, 0, 0) := by decide +kernel
theorem i80_21 : J.cd 80 21 = some (.iconst 0, 22, 21, 0, 0) := by decide +kernel
theorem i80_22 : J.cd 80 22 = some (.aload 0, 23, 0, 0, 0) := by decide +kernel
theorem i80_23 : J.cd 80 23 = some (.arraylength, 24, 23, 0, 0) := by decide +kernel
theorem i80_24 : J.cd 80 24 = some (.iload 1, 25, 0, 0, 0) := by decide +kernel
theorem i80_25 : J.cd 80 25 = some (.invokestatic 304, 28, 26, 2, 2) := by decide +kernel
theorem i80_28 : J.cd 80 28 = some (.invokestatic 150, 31, 2000, 5, 0) := by decide +kernel
theorem i80_31 : J.cd 80 31 = some (.aload 2, 32, 0, 0, 0) := by decide +kernel
theorem i80_32 : J.cd 80 32 = some (.areturn, 33, 32, 0, 0) := by decide +kernel
theorem b80_0 (d : Nat) (h : J.H) (Q : J.O → J.H → Prop) (x0 x1 : Int) : J.WP d 80 0 [J.R x0, J.I x1, J.U] [] h Q ↔ (J.ia (J.cl h x0) = true) ∧ (if x1 = (J.ln h x0) then ((J.cl h x0 = 204 ∧ J.us h + 7 + J.ln h x0 ≤ J.UM) ∧ ((J.no (J.nx h) ∨ J.sb (J.cl (J.nw h 204 (J.ln h x0) (7 + J.ln h x0)) (J.nx h)) 204 = true) ∧ (Q (Sum.inl (some (J.R (J.nx h)))) (J.cpy (J.nw h 204 (J.ln h x0) (7 + J.ln h x0)) x0 0 (J.nx h) 0 (J.ln h x0))))) else ((0 ≤ x1 ∧ J.us h + 7 + x1 ≤ J.UM) ∧ ((J.ia (J.cl (J.nw h 204 x1 (7 + x1)) x0) = true) ∧ (0 < d ∧ J.WP (d - 1) 26 0 [J.I (J.ln (J.nw h 204 x1 (7 + x1)) x0), J.I x1] [] (J.nw h 204 x1 (7 + x1)) (J.af J.WP d 80 25 28 [J.R x0, J.I x1, J.R (J.nx h)] [J.I 0, J.R (J.nx h), J.I 0, J.R x0] Q))))) := by
  refine (J.r_iload i80_0 rfl).trans ?_
  refine (J.r_aload i80_1 rfl).trans ?_
  refine (J.r_alen i80_2).trans (and_congr_right fun q0 => ?_)
  refine (J.r_icne i80_3).trans (J.ite2 ?_ ?_)
  · refine (J.r_aload i80_6 rfl).trans ?_
    refine (J.r_cloneB i80_7).trans (and_congr_right fun q1 => ?_)
    refine (J.r_cast i80_10).trans (and_congr_right fun q2 => ?_)
    exact J.r_aret i80_13 rfl
  · refine (J.r_iload i80_14 rfl).trans ?_
    refine (J.r_newarray i80_15).trans (and_congr_right fun q1 => ?_)
    refine (J.r_astore i80_17 (Nat.le_of_ble_eq_true rfl) rfl).trans ?_
    refine (J.r_aload i80_18 rfl).trans ?_
    refine (J.r_iconst i80_19).trans ?_
    refine (J.r_aload i80_20 rfl).trans ?_
    refine (J.r_iconst i80_21).trans ?_
    refine (J.r_aload i80_22 rfl).trans ?_
    refine (J.r_alen i80_23).trans (and_congr_right fun q2 => ?_)
    refine (J.r_iload i80_24 rfl).trans ?_
    exact J.r_stat i80_25 (by decide) (Nat.le_of_ble_eq_true rfl) rfl rfl (Nat.le_of_ble_eq_true rfl)
theorem b80_28 (d : Nat) (h : J.H) (Q : J.O → J.H → Prop) (x0 x1 x2 s0 s1 s2 s3 s4 : Int) : J.WP d 80 28 [J.R x0, J.I x1, J.R x2] [J.I s4, J.I s3, J.R s2, J.I s1, J.R s0] h Q ↔ ((0 : Int) ≤ s4 ∧ (0 : Int) ≤ s1 ∧ (0 : Int) ≤ s3 ∧ s1 + s4 ≤ J.ln h s0 ∧ s3 + s4 ≤ J.ln h s2 ∧ J.cl h s2 < 300 ∧ ((J.isA (J.cl h s0) 3 = true ∧ J.cl h s2 = 204 ∧ J.cl h s0 ≠ 203) ∨ (J.isA (J.cl h s0) 2 = true ∧ J.cl h s2 = 214 ∧ J.vld h s0 s1 s4 = true))) ∧ (Q (Sum.inl (some (J.R x2))) (J.cpy h s0 s1 s2 s3 s4)) := by
  refine (J.r_acopy i80_28).trans (and_congr_right fun q0 => ?_)
  refine (J.r_aload i80_31 rfl).trans ?_
  exact J.r_aret i80_32 rfl
/-! 81 java/lang/AbstractStringBuilder.isLatin1()Z -/
theorem i81_0 : J.cd 81 0 = some (.getstatic 18, 3, 0, 0, 3) := by decide +kernel
theorem i81_3 : J.cd 81 3 = some (.ifCond .eq 14, 6, 17, 0, 0) := by decide +kernel
theorem i81_6 : J.cd 81 6 = some (.aload 0, 7, 0, 0, 0) := by decide +kernel
theorem i81_7 : J.cd 81 7 = some (.getfield 22, 10, 8, 86, 4) := by decide +kernel
theorem i81_10 : J.cd 81 10 = some (.ifCond .ne 7, 13, 17, 0, 0) := by decide +kernel
theorem i81_13 : J.cd 81 13 = some (.iconst 1, 14, 13, 0, 0) := by decide +kernel
theorem i81_14 : J.cd 81 14 = some (.goto 4, 17, 18, 0, 0) := by decide +kernel
theorem i81_17 : J.cd 81 17 = some (.iconst 0, 18, 17, 0, 0) := by decide +kernel
theorem i81_18 : J.cd 81 18 = some (.ireturn, 19, 0, 0, 3) := by decide +kernel
theorem b81_0 (d : Nat) (h : J.H) (Q : J.O → J.H → Prop) (x0 : Int) : J.WP d 81 0 [J.R x0] [] h Q ↔ if (J.gv h (-1) 0) = 0 then (J.WP d 81 17 [J.R x0] [] h Q) else ((J.sb (J.cl h x0) 86 = true) ∧ (if (J.gv h x0 8) = 0 then (J.WP d 81 18 [J.R x0] [J.I 1] h Q) else (J.WP d 81 17 [J.R x0] [] h Q))) := by
  refine (J.r_getsZ i81_0).trans ?_
  refine (J.r_ifeq i81_3).trans (J.ite2 ?_ ?_)
  · exact Iff.rfl
  · refine (J.r_aload i81_6 rfl).trans ?_
    refine (J.r_getB i81_7).trans (and_congr_right fun q0 => ?_)
    refine (J.r_ifne i81_10).trans (J.ite2 ?_ ?_)
    · refine (J.r_iconst i81_13).trans ?_
      refine (J.r_goto i81_14).trans ?_
      exact Iff.rfl
    · exact Iff.rfl
theorem b81_17 (d : Nat) (h : J.H) (Q : J.O → J.H → Prop) (x0 : Int) : J.WP d 81 17 [J.R x0] [] h Q ↔ J.WP d 81 18 [J.R x0] [J.I 0] h Q := by
  refine (J.r_iconst i81_17).trans ?_
  exact Iff.rfl
theorem b81_18 (d : Nat) (h : J.H) (Q : J.O → J.H → Prop) (x0 s0 : Int) : J.WP d 81 18 [J.R x0] [J.I s0] h Q ↔ (J.zo s0) ∧ Q (Sum.inl (some (J.I s0))) h := by
  exact J.r_iretZ i81_18 rfl
/-! 82 java/lang/StringLatin1.fillNull([BII)V -/
theorem i82_0 : J.cd 82 0 = some (.aload 0, 1, 0, 0, 0) := by decide +kernel
theorem i82_1 : J.cd 82 1 = some (.iload 1, 2, 0, 0, 0) := by decide +kernel
theorem i82_2 : J.cd 82 2 = some (.iload 2, 3, 0, 0, 0) := by decide +kernel
theorem i82_3 : J.cd 82 3 = some (.iconst 0, 4, 3, 0, 0) := by decide +kernel
theorem i82_4 : J.cd 82 4 = some (.invokestatic 236, 7, 83, 4, 5) := by decide +kernel
theorem i82_7 : J.cd 82 7 = some (.return_, 8, 7, 0, 0) := by decide +kernel
theorem b82_0 (d : Nat) (h : J.H) (Q : J.O → J.H → Prop) (x0 x1 x2 : Int) : J.WP d 82 0 [J.R x0, J.I x1, J.I x2] [] h Q ↔ 0 < d ∧ J.WP (d - 1) 83 0 [J.R x0, J.I x1, J.I x2, J.I 0, J.U] [] h (J.af J.WP d 82 4 7 [J.R x0, J.I x1, J.I x2] [] Q) := by
  refine (J.r_aload i82_0 rfl).trans ?_
  refine (J.r_iload i82_1 rfl).trans ?_
  refine (J.r_iload i82_2 rfl).trans ?_
  refine (J.r_iconst i82_3).trans ?_
  exact J.r_stat i82_4 (by decide) (Nat.le_of_ble_eq_true rfl) rfl rfl (Nat.le_of_ble_eq_true rfl)
theorem b82_7 (d : Nat) (h : J.H) (Q : J.O → J.H → Prop) (x0 x1 x2 : Int) : J.WP d 82 7 [J.R x0, J.I x1, J.I x2] [] h Q ↔ Q (Sum.inl none) h := by
  exact J.r_ret i82_7 rfl
/-! 83 java/util/Arrays.fill([BIIB)V -/
theorem i83_0 : J.cd 83 0 = some (.aload 0, 1, 0, 0, 0) := by decide +kernel
theorem i83_1 : J.cd 83 1 = some (.arraylength, 2, 1, 0, 0) := by decide +kernel
theorem i83_2 : J.cd 83 2 = some (.iload 1, 3, 0, 0, 0) := by decide +kernel
theorem i83_3 : J.cd 83 3 = some (.iload 2, 4, 0, 0, 0) := by decide +kernel
theorem i83_4 : J.cd 83 4 = some (.invokestatic 13, 7, 84, 3, 3) := by decide +kernel
theorem i83_7 : J.cd 83 7 = some (.iload 1, 8, 0, 0, 0) := by decide +kernel
theorem i83_8 : J.cd 83 8 = some (.istore 4, 10, 8, 0, 0) := by decide +kernel
theorem i83_10 : J.cd 83 10 = some (.iload 4, 12, 10, 0, 0) := by decide +kernel
theorem i83_12 : J.cd 83 12 = some (.iload 2, 13, 0, 0, 0) := by decide +kernel
theorem i83_13 : J.cd 83 13 = some (.if_icmp .ge 14, 16, 27, 0, 0) := by decide +kernel
theorem i83_16 : J.cd 83 16 = some (.aload 0, 17, 0, 0, 0) := by decide +kernel
theorem i83_17 : J.cd 83 17 = some (.iload 4, 19, 17, 0, 0) := by decide +kernel
theorem i83_19 : J.cd 83 19 = some (.iload 3, 20, 0, 0, 0) := by decide +kernel
theorem i83_20 : J.cd 83 20 = some (.bastore, 21, 20, 0, 0) := by decide +kernel
theorem i83_21 : J.cd 83 21 = some (.iinc 4 1, 24, 21, 0, 0) := by decide +kernel
theorem i83_24 : J.cd 83 24 = some (.goto (-14), 27, 10, 0, 0) := by decide +kernel
theorem i83_27 : J.cd 83 27 = some (.return_, 28, 27, 0, 0) := by decide +kernel
theorem b83_0 (d : Nat) (h : J.H) (Q : J.O → J.H → Prop) (x0 x1 x2 x3 : Int) : J.WP d 83 0 [J.R x0, J.I x1, J.I x2, J.I x3, J.U] [] h Q ↔ (J.ia (J.cl h x0) = true) ∧ (0 < d ∧ J.WP (d - 1) 84 0 [J.I (J.ln h x0), J.I x1, J.I x2] [] h (J.af J.WP d 83 4 7 [J.R x0, J.I x1, J.I x2, J.I x3, J.U] [] Q)) := by
  refine (J.r_aload i83_0 rfl).trans ?_
  refine (J.r_alen i83_1).trans (and_congr_right fun q0 => ?_)
  refine (J.r_iload i83_2 rfl).trans ?_
  refine (J.r_iload i83_3 rfl).trans ?_
  exact J.r_stat i83_4 (by decide) (Nat.le_of_ble_eq_true rfl) rfl rfl (Nat.le_of_ble_eq_true rfl)
theorem b83_7 (d : Nat) (h : J.H) (Q : J.O → J.H → Prop) (x0 x1 x2 x3 : Int) : J.WP d 83 7 [J.R x0, J.I x1, J.I x2, J.I x3, J.U] [] h Q ↔ J.WP d 83 10 [J.R x0, J.I x1, J.I x2, J.I x3, J.I x1] [] h Q := by
  refine (J.r_iload i83_7 rfl).trans ?_
  refine (J.r_istore i83_8 (Nat.le_of_ble_eq_true rfl) rfl).trans ?_
  exact Iff.rfl
theorem b83_10 (d : Nat) (h : J.H) (Q : J.O → J.H → Prop) (x0 x1 x2 x3 x4 : Int) : J.WP d 83 10 [J.R x0, J.I x1, J.I x2, J.I x3, J.I x4] [] h Q ↔ if x4 < x2 then ((((J.cl h x0 = 203 ∧ J.zo x3) ∨ (J.cl h x0 = 204 ∧ J.br x3)) ∧ J.rg x4 (J.ln h x0)) ∧ (J.WP d 83 10 [J.R x0, J.I x1, J.I x2, J.I x3, J.I (J.w32 (x4 + 1))] [] (J.sv h x0 x4 x3) Q)) else (Q (Sum.inl none) h) := by
  refine (J.r_iload i83_10 rfl).trans ?_
  refine (J.r_iload i83_12 rfl).trans ?_
  refine (J.r_icge i83_13).trans (J.ite2 ?_ ?_)
  · refine (J.r_aload i83_16 rfl).trans ?_
    refine (J.r_iload i83_17 rfl).trans ?_
    refine (J.r_iload i83_19 rfl).trans ?_
    refine (J.r_bastore i83_20).trans (and_congr_right fun q0 => ?_)
    refine (J.r_iinc i83_21 rfl rfl).trans ?_
    refine (J.r_goto i83_24).trans ?_
    exact Iff.rfl
  · exact J.r_ret i83_27 rfl
/-! 84 java/util/Arrays.rangeCheck(III)V -/
theorem i84_0 : J.cd 84 0 = some (.iload 1, 1, 0, 0, 0) := by decide +kernel
theorem i84_1 : J.cd 84 1 = some (.iload 2, 2, 0, 0, 0) := by decide +kernel
theorem i84_2 : J.cd 84 2 = some (.if_icmp .le 44, 5, 46, 0, 0) := by decide +kernel
theorem i84_5 : J.cd 84 5 = some (.new 43, 8, 21, 13, 0) := by decide +kernel
theorem i84_8 : J.cd 84 8 = some (.dup, 9, 8, 0, 0) := by decide +kernel
theorem i84_9 : J.cd 84 9 = some (.new 45, 12, 4, 11, 0) := by decide +kernel
theorem i84_12 : J.cd 84 12 = some (.dup, 13, 12, 0, 0) := by decide +kernel
theorem i84_13 : J.cd 84 13 = some (.invokespecial 47, 16, 4, 1, 1) := by decide +kernel
theorem i84_16 : J.cd 84 16 = some (.ldc 48, 18, 1057, 1, 0) := by decide +kernel
theorem i84_18 : J.cd 84 18 = some (.invokevirtual 50, 21, 188, 1, 0) := by decide +kernel
theorem i84_21 : J.cd 84 21 = some (.iload 1, 22, 0, 0, 0) := by decide +kernel
theorem i84_22 : J.cd 84 22 = some (.invokevirtual 54, 25, 138, 1, 0) := by decide +kernel
theorem i84_25 : J.cd 84 25 = some (.ldc 57, 27, 1058, 1, 0) := by decide +kernel
theorem i84_27 : J.cd 84 27 = some (.invokevirtual 50, 30, 188, 1, 0) := by decide +kernel
theorem i84_30 : J.cd 84 30 = some (.iload 2, 31, 0, 0, 0) := by decide +kernel
theorem i84_31 : J.cd 84 31 = some (.invokevirtual 54, 34, 138, 1, 0) := by decide +kernel
theorem i84_34 : J.cd 84 34 = some (.ldc 59, 36, 1059, 1, 0) := by decide +kernel
theorem i84_36 : J.cd 84 36 = some (.invokevirtual 50, 39, 188, 1, 0) := by decide +kernel
theorem i84_39 : J.cd 84 39 = some (.invokevirtual 61, 42, 163, 0, 0) := by decide +kernel
theorem i84_42 : J.cd 84 42 = some (.invokespecial 65, 45, 120, 2, 2) := by decide +kernel
theorem i84_45 : J.cd 84 45 = some (.athrow, 46, 45, 0, 0) := by decide +kernel
theorem i84_46 : J.cd 84 46 = some (.iload 1, 47, 0, 0, 0) := by decide +kernel
theorem i84_47 : J.cd 84 47 = some (.ifCond .ge 12, 50, 59, 0, 0) := by decide +kernel
theorem i84_59 : J.cd 84 59 = some (.iload 2, 60, 0, 0, 0) := by decide +kernel
theorem i84_60 : J.cd 84 60 = some (.iload 0, 61, 0, 0, 0) := by decide +kernel
theorem i84_61 : J.cd 84 61 = some (.if_icmp .le 12, 64, 73, 0, 0) := by decide +kernel
theorem i84_73 : J.cd 84 73 = some (.return_, 74, 73, 0, 0) := by decide +kernel
theorem b84_0 (d : Nat) (h : J.H) (Q : J.O → J.H → Prop) (x0 x1 x2 : Int) : J.WP d 84 0 [J.I x0, J.I x1, J.I x2] [] h Q ↔ if x1 ≤ x2 then (if x1 < 0 then (J.WP d 84 50 [J.I x0, J.I x1, J.I x2] [] h Q) else (if x2 ≤ x0 then (Q (Sum.inl none) h) else (J.WP d 84 64 [J.I x0, J.I x1, J.I x2] [] h Q))) else ((J.us h + (13 : Nat) ≤ J.UM) ∧ ((J.us (J.nw h 21 0 (13 : Nat)) + (11 : Nat) ≤ J.UM) ∧ (J.ik (J.cl (J.nw (J.nw h 21 0 (13 : Nat)) 4 0 (11 : Nat)) (J.nx (J.nw h 21 0 (13 : Nat)))) = true ∧ 0 < d ∧ J.WP (d - 1) 4 0 [J.R (J.nx (J.nw h 21 0 (13 : Nat)))] [] (J.nw (J.nw h 21 0 (13 : Nat)) 4 0 (11 : Nat)) (J.af J.WP d 84 13 16 [J.I x0, J.I x1, J.I x2] [J.R (J.nx (J.nw h 21 0 (13 : Nat))), J.R (J.nx h), J.R (J.nx h)] Q)))) := by
  refine (J.r_iload i84_0 rfl).trans ?_
  refine (J.r_iload i84_1 rfl).trans ?_
  refine (J.r_icle i84_2).trans (J.ite2 ?_ ?_)
  · refine (J.r_iload i84_46 rfl).trans ?_
    refine (J.r_ifge i84_47).trans (J.ite2 ?_ ?_)
    · exact Iff.rfl
    · refine (J.r_iload i84_59 rfl).trans ?_
      refine (J.r_iload i84_60 rfl).trans ?_
      refine (J.r_icle i84_61).trans (J.ite2 ?_ ?_)
      · exact J.r_ret i84_73 rfl
      · exact Iff.rfl
  · refine (J.r_new i84_5).trans (and_congr_right fun q0 => ?_)
    refine (J.r_dupR i84_8).trans ?_
    refine (J.r_new i84_9).trans (and_congr_right fun q1 => ?_)
    refine (J.r_dupR i84_12).trans ?_
    exact J.r_spec i84_13 (by decide) ⟨by decide, Nat.le_of_ble_eq_true rfl⟩ rfl rfl (Nat.le_of_ble_eq_true rfl)
theorem b84_16 (d : Nat) (h : J.H) (Q : J.O → J.H → Prop) (x0 x1 x2 s0 s1 s2 : Int) : J.WP d 84 16 [J.I x0, J.I x1, J.I x2] [J.R s2, J.R s1, J.R s0] h Q ↔ J.cl h s2 = 4 ∧ 0 < d ∧ J.WP (d - 1) 85 0 [J.R s2, J.R (J.gv h (-1) 1057)] [] h (J.af J.WP d 84 18 21 [J.I x0, J.I x1, J.I x2] [J.R s1, J.R s0] Q) := by
  refine (J.r_ldcs i84_16).trans ?_
  exact J.r_virt1 (k2 := 85) (m := 2) 4 i84_18 rfl (by decide +kernel) (by decide) rfl (Nat.le_of_ble_eq_true rfl)
theorem b84_21 (d : Nat) (h : J.H) (Q : J.O → J.H → Prop) (x0 x1 x2 s0 s1 s2 : Int) : J.WP d 84 21 [J.I x0, J.I x1, J.I x2] [J.R s2, J.R s1, J.R s0] h Q ↔ J.cl h s2 = 4 ∧ 0 < d ∧ J.WP (d - 1) 105 0 [J.R s2, J.I x1] [] h (J.af J.WP d 84 22 25 [J.I x0, J.I x1, J.I x2] [J.R s1, J.R s0] Q) := by
  refine (J.r_iload i84_21 rfl).trans ?_
  exact J.r_virt1 (k2 := 105) (m := 2) 4 i84_22 rfl (by decide +kernel) (by decide) rfl (Nat.le_of_ble_eq_true rfl)
theorem b84_25 (d : Nat) (h : J.H) (Q : J.O → J.H → Prop) (x0 x1 x2 s0 s1 s2 : Int) : J.WP d 84 25 [J.I x0, J.I x1, J.I x2] [J.R s2, J.R s1, J.R s0] h Q ↔ J.cl h s2 = 4 ∧ 0 < d ∧ J.WP (d - 1) 85 0 [J.R s2, J.R (J.gv h (-1) 1058)] [] h (J.af J.WP d 84 27 30 [J.I x0, J.I x1, J.I x2] [J.R s1, J.R s0] Q) := by
  refine (J.r_ldcs i84_25).trans ?_
  exact J.r_virt1 (k2 := 85) (m := 2) 4 i84_27 rfl (by decide +kernel) (by decide) rfl (Nat.le_of_ble_eq_true rfl)
theorem b84_30 (d : Nat) (h : J.H) (Q : J.O → J.H → Prop) (x0 x1 x2 s0 s1 s2 : Int) : J.WP d 84 30 [J.I x0, J.I x1, J.I x2] [J.R s2, J.R s1, J.R s0] h Q ↔ J.cl h s2 = 4 ∧ 0 < d ∧ J.WP (d - 1) 105 0 [J.R s2, J.I x2] [] h (J.af J.WP d 84 31 34 [J.I x0, J.I x1, J.I x2] [J.R s1, J.R s0] Q) := by
  refine (J.r_iload i84_30 rfl).trans ?_
  exact J.r_virt1 (k2 := 105) (m := 2) 4 i84_31 rfl (by decide +kernel) (by decide) rfl (Nat.le_of_ble_eq_true rfl)
theorem b84_34 (d : Nat) (h : J.H) (Q : J.O → J.H → Prop) (x0 x1 x2 s0 s1 s2 : Int) : J.WP d 84 34 [J.I x0, J.I x1, J.I x2] [J.R s2, J.R s1, J.R s0] h Q ↔ J.cl h s2 = 4 ∧ 0 < d ∧ J.WP (d - 1) 85 0 [J.R s2, J.R (J.gv h (-1) 1059)] [] h (J.af J.WP d 84 36 39 [J.I x0, J.I x1, J.I x2] [J.R s1, J.R s0] Q) := by
  refine (J.r_ldcs i84_34).trans ?_
  exact J.r_virt1 (k2 := 85) (m := 2) 4 i84_36 rfl (by decide +kernel) (by decide) rfl (Nat.le_of_ble_eq_true rfl)
theorem b84_39 (d : Nat) (h : J.H) (Q : J.O → J.H → Prop) (x0 x1 x2 s0 s1 s2 : Int) : J.WP d 84 39 [J.I x0, J.I x1, J.I x2] [J.R s2, J.R s1, J.R s0] h Q ↔ J.cl h s2 = 4 ∧ 0 < d ∧ J.WP (d - 1) 111 0 [J.R s2] [] h (J.af J.WP d 84 39 42 [J.I x0, J.I x1, J.I x2] [J.R s1, J.R s0] Q) := by
  exact J.r_virt1 (k2 := 111) (m := 1) 4 i84_39 rfl (by decide +kernel) (by decide) rfl (Nat.le_of_ble_eq_true rfl)
theorem b84_42 (d : Nat) (h : J.H) (Q : J.O → J.H → Prop) (x0 x1 x2 s0 s1 s2 : Int) : J.WP d 84 42 [J.I x0, J.I x1, J.I x2] [J.R s2, J.R s1, J.R s0] h Q ↔ J.ik (J.cl h s1) = true ∧ 0 < d ∧ J.WP (d - 1) 120 0 [J.R s1, J.R s2] [] h (J.af J.WP d 84 42 45 [J.I x0, J.I x1, J.I x2] [J.R s0] Q) := by
  exact J.r_spec i84_42 (by decide) ⟨by decide, Nat.le_of_ble_eq_true rfl⟩ rfl rfl (Nat.le_of_ble_eq_true rfl)
theorem b84_45 (d : Nat) (h : J.H) (Q : J.O → J.H → Prop) (x0 x1 x2 s0 : Int) : J.WP d 84 45 [J.I x0, J.I x1, J.I x2] [J.R s0] h Q ↔ (J.cl h s0 = 21) ∧ Q (Sum.inr s0) h := by
  exact J.r_throw i84_45 rfl
/-! 85 java/lang/StringBuilder.append(Ljava/lang/String;)Ljava/lang/StringBuilder; -/
theorem i85_0 : J.cd 85 0 = some (.aload 0, 1, 0, 0, 0) := by decide +kernel
theorem i85_1 : J.cd 85 1 = some (.aload 1, 2, 0, 0, 0) := by decide +kernel
theorem i85_2 : J.cd 85 2 = some (.invokespecial 29, 5, 86, 2, 3) := by decide +kernel
theorem i85_5 : J.cd 85 5 = some (.pop, 6, 5, 0, 0) := by decide +kernel
theorem i85_6 : J.cd 85 6 = some (.aload 0, 7, 0, 0, 0) := by decide +kernel
theorem i85_7 : J.cd 85 7 = some (.areturn, 8, 7, 0, 0) := by decide +kernel
theorem b85_0 (d : Nat) (h : J.H) (Q : J.O → J.H → Prop) (x0 x1 : Int) : J.WP d 85 0 [J.R x0, J.R x1] [] h Q ↔ J.ik (J.cl h x0) = true ∧ 0 < d ∧ J.WP (d - 1) 86 0 [J.R x0, J.R x1, J.U] [] h (J.af J.WP d 85 2 5 [J.R x0, J.R x1] [] Q) := by
  refine (J.r_aload i85_0 rfl).trans ?_
  refine (J.r_aload i85_1 rfl).trans ?_
  exact J.r_spec i85_2 (by decide) ⟨by decide, Nat.le_of_ble_eq_true rfl⟩ rfl rfl (Nat.le_of_ble_eq_true rfl)
theorem b85_5 (d : Nat) (h : J.H) (Q : J.O → J.H → Prop) (x0 x1 s0 : Int) : J.WP d 85 5 [J.R x0, J.R x1] [J.R s0] h Q ↔ Q (Sum.inl (some (J.R x0))) h := by
  refine (J.r_popR i85_5).trans ?_
  refine (J.r_aload i85_6 rfl).trans ?_
  exact J.r_aret i85_7 rfl
/-! 86 java/lang/AbstractStringBuilder.append(Ljava/lang/String;)Ljava/lang/AbstractStringBuilder; -/
theorem i86_0 : J.cd 86 0 = some (.aload 1, 1, 0, 0, 0) := by decide +kernel
theorem i86_1 : J.cd 86 1 = some (.ifnonnull 8, 4, 9, 0, 0) := by decide +kernel
theorem i86_4 : J.cd 86 4 = some (.aload 0, 5, 0, 0, 0) := by decide +kernel
theorem i86_5 : J.cd 86 5 = some (.invokevirtual 204, 8, 202, 0, 0) := by decide +kernel
theorem i86_8 : J.cd 86 8 = some (.areturn, 9, 8, 0, 0) := by decide +kernel
theorem i86_9 : J.cd 86 9 = some (.aload 1, 10, 0, 0, 0) := by decide +kernel
theorem i86_10 : J.cd 86 10 = some (.invokevirtual 32, 13, 144, 0, 0) := by decide +kernel
theorem i86_13 : J.cd 86 13 = some (.istore 2, 14, 0, 0, 0) := by decide +kernel
theorem i86_14 : J.cd 86 14 = some (.aload 0, 15, 0, 0, 0) := by decide +kernel
theorem i86_15 : J.cd 86 15 = some (.aload 0, 16, 0, 0, 0) := by decide +kernel
theorem i86_16 : J.cd 86 16 = some (.getfield 79, 19, 10, 86, 0) := by decide +kernel
theorem i86_19 : J.cd 86 19 = some (.iload 2, 20, 0, 0, 0) := by decide +kernel
theorem i86_20 : J.cd 86 20 = some (.iadd, 21, 20, 0, 0) := by decide +kernel
theorem i86_21 : J.cd 86 21 = some (.invokevirtual 100, 24, 199, 1, 0) := by decide +kernel
theorem i86_24 : J.cd 86 24 = some (.aload 0, 25, 0, 0, 0) := by decide +kernel
theorem i86_25 : J.cd 86 25 = some (.aload 0, 26, 0, 0, 0) := by decide +kernel
theorem i86_26 : J.cd 86 26 = some (.getfield 79, 29, 10, 86, 0) := by decide +kernel
theorem i86_29 : J.cd 86 29 = some (.aload 1, 30, 0, 0, 0) := by decide +kernel
theorem i86_30 : J.cd 86 30 = some (.invokevirtual 208, 33, 203, 2, 0) := by decide +kernel
theorem i86_33 : J.cd 86 33 = some (.aload 0, 34, 0, 0, 0) := by decide +kernel
theorem i86_34 : J.cd 86 34 = some (.dup, 35, 34, 0, 0) := by decide +kernel
theorem i86_35 : J.cd 86 35 = some (.getfield 79, 38, 10, 86, 0) := by decide +kernel
theorem i86_38 : J.cd 86 38 = some (.iload 2, 39, 0, 0, 0) := by decide +kernel
theorem i86_39 : J.cd 86 39 = some (.iadd, 40, 39, 0, 0) := by decide +kernel
theorem i86_40 : J.cd 86 40 = some (.putfield 79, 43, 10, 86, 0) := by decide +kernel
theorem i86_43 : J.cd 86 43 = some (.aload 0, 44, 0, 0, 0) := by decide +kernel
theorem i86_44 : J.cd 86 44 = some (.areturn, 45, 44, 0, 0) := by decide +kernel
theorem b86_0 (d : Nat) (h : J.H) (Q : J.O → J.H → Prop) (x0 x1 : Int) : J.WP d 86 0 [J.R x0, J.R x1, J.U] [] h Q ↔ if x1 = 0 then (J.cl h x0 = 4 ∧ 0 < d ∧ J.WP (d - 1) 87 0 [J.R x0, J.U, J.U] [] h (J.af J.WP d 86 5 8 [J.R x0, J.R x1, J.U] [] Q)) else (J.WP d 86 10 [J.R x0, J.R x1, J.U] [J.R x1] h Q) := by
  refine (J.r_aload i86_0 rfl).trans ?_
  refine (J.r_ifnonnull i86_1).trans (J.ite2 ?_ ?_)
  · refine (J.r_aload i86_4 rfl).trans ?_
    exact J.r_virt1 (k2 := 87) (m := 3) 4 i86_5 rfl (by decide +kernel) (by decide) rfl (Nat.le_of_ble_eq_true rfl)
  · refine (J.r_aload i86_9 rfl).trans ?_
    exact Iff.rfl
theorem b86_8 (d : Nat) (h : J.H) (Q : J.O → J.H → Prop) (x0 x1 s0 : Int) : J.WP d 86 8 [J.R x0, J.R x1, J.U] [J.R s0] h Q ↔ Q (Sum.inl (some (J.R s0))) h := by
  exact J.r_aret i86_8 rfl
theorem b86_10_c23 (d : Nat) (h : J.H) (Q : J.O → J.H → Prop) (x0 x1 s0 : Int) (hq : J.cl h s0 = 23) : J.WP d 86 10 [J.R x0, J.R x1, J.U] [J.R s0] h Q ↔ 0 < d ∧ J.WP (d - 1) 94 0 [J.R s0] [] h (J.af J.WP d 86 10 13 [J.R x0, J.R x1, J.U] [] Q) := by
  exact J.r_virt (k2 := 94) (m := 1) i86_10 rfl 23 hq (by decide +kernel) (by decide) rfl (Nat.le_of_ble_eq_true rfl)
theorem b86_10_c321 (d : Nat) (h : J.H) (Q : J.O → J.H → Prop) (x0 x1 s0 : Int) (hq : J.cl h s0 = 321) : J.WP d 86 10 [J.R x0, J.R x1, J.U] [J.R s0] h Q ↔ 0 < d ∧ J.WP (d - 1) 94 0 [J.R s0] [] h (J.af J.WP d 86 10 13 [J.R x0, J.R x1, J.U] [] Q) := by
  exact J.r_virt (k2 := 94) (m := 1) i86_10 rfl 321 hq (by decide +kernel) (by decide) rfl (Nat.le_of_ble_eq_true rfl)
theorem b86_13 (d : Nat) (h : J.H) (Q : J.O → J.H → Prop) (x0 x1 s0 : Int) : J.WP d 86 13 [J.R x0, J.R x1, J.U] [J.I s0] h Q ↔ (J.sb (J.cl h x0) 86 = true) ∧ (J.cl h x0 = 4 ∧ 0 < d ∧ J.WP (d - 1) 78 0 [J.R x0, J.I (J.w32 ((J.gv h x0 10) + s0)), J.U] [] h (J.af J.WP d 86 21 24 [J.R x0, J.R x1, J.I s0] [] Q)) := by
  refine (J.r_istore i86_13 (Nat.le_of_ble_eq_true rfl) rfl).trans ?_
  refine (J.r_aload i86_14 rfl).trans ?_
  refine (J.r_aload i86_15 rfl).trans ?_
  refine (J.r_getI i86_16).trans (and_congr_right fun q0 => ?_)
  refine (J.r_iload i86_19 rfl).trans ?_
  refine (J.r_iadd i86_20).trans ?_
  exact J.r_virt1 (k2 := 78) (m := 3) 4 i86_21 rfl (by decide +kernel) (by decide) rfl (Nat.le_of_ble_eq_true rfl)
theorem b86_24 (d : Nat) (h : J.H) (Q : J.O → J.H → Prop) (x0 x1 x2 : Int) : J.WP d 86 24 [J.R x0, J.R x1, J.I x2] [] h Q ↔ (J.sb (J.cl h x0) 86 = true) ∧ (J.cl h x0 = 4 ∧ 0 < d ∧ J.WP (d - 1) 96 0 [J.R x0, J.I (J.gv h x0 10), J.R x1] [] h (J.af J.WP d 86 30 33 [J.R x0, J.R x1, J.I x2] [] Q)) := by
  refine (J.r_aload i86_24 rfl).trans ?_
  refine (J.r_aload i86_25 rfl).trans ?_
  refine (J.r_getI i86_26).trans (and_congr_right fun q0 => ?_)
  refine (J.r_aload i86_29 rfl).trans ?_
  exact J.r_virt1 (k2 := 96) (m := 3) 4 i86_30 rfl (by decide +kernel) (by decide) rfl (Nat.le_of_ble_eq_true rfl)
theorem b86_33 (d : Nat) (h : J.H) (Q : J.O → J.H → Prop) (x0 x1 x2 : Int) : J.WP d 86 33 [J.R x0, J.R x1, J.I x2] [] h Q ↔ (J.sb (J.cl h x0) 86 = true) ∧ ((J.sb (J.cl h x0) 86 = true ∧ J.cl h x0 < 300) ∧ (Q (Sum.inl (some (J.R x0))) (J.sv h x0 10 (J.w32 ((J.gv h x0 10) + x2))))) := by
  refine (J.r_aload i86_33 rfl).trans ?_
  refine (J.r_dupR i86_34).trans ?_
  refine (J.r_getI i86_35).trans (and_congr_right fun q0 => ?_)
  refine (J.r_iload i86_38 rfl).trans ?_
  refine (J.r_iadd i86_39).trans ?_
  refine (J.r_putI i86_40).trans (and_congr_right fun q1 => ?_)
  refine (J.r_aload i86_43 rfl).trans ?_
  exact J.r_aret i86_44 rfl
/-! 96 java/lang/AbstractStringBuilder.putStringAt(ILjava/lang/String;)V -/
theorem i96_0 : J.cd 96 0 = some (.aload 0, 1, 0, 0, 0) := by decide +kernel
theorem i96_1 : J.cd 96 1 = some (.aload 2, 2, 0, 0, 0) := by decide +kernel
theorem i96_2 : J.cd 96 2 = some (.invokevirtual 397, 5, 204, 1, 0) := by decide +kernel
theorem i96_5 : J.cd 96 5 = some (.aload 2, 6, 0, 0, 0) := by decide +kernel
theorem i96_6 : J.cd 96 6 = some (.aload 0, 7, 0, 0, 0) := by decide +kernel
theorem i96_7 : J.cd 96 7 = some (.getfield 15, 10, 7, 86, 2) := by decide +kernel
theorem i96_10 : J.cd 96 10 = some (.iload 1, 11, 0, 0, 0) := by decide +kernel
theorem i96_11 : J.cd 96 11 = some (.aload 0, 12, 0, 0, 0) := by decide +kernel
theorem i96_12 : J.cd 96 12 = some (.getfield 22, 15, 8, 86, 4) := by decide +kernel
theorem i96_15 : J.cd 96 15 = some (.invokevirtual 399, 18, 207, 3, 0) := by decide +kernel
theorem i96_18 : J.cd 96 18 = some (.return_, 19, 18, 0, 0) := by decide +kernel
theorem b96_0 (d : Nat) (h : J.H) (Q : J.O → J.H → Prop) (x0 x1 x2 : Int) : J.WP d 96 0 [J.R x0, J.I x1, J.R x2] [] h Q ↔ J.cl h x0 = 4 ∧ 0 < d ∧ J.WP (d - 1) 97 0 [J.R x0, J.R x2] [] h (J.af J.WP d 96 2 5 [J.R x0, J.I x1, J.R x2] [] Q) := by
  refine (J.r_aload i96_0 rfl).trans ?_
  refine (J.r_aload i96_1 rfl).trans ?_
  exact J.r_virt1 (k2 := 97) (m := 2) 4 i96_2 rfl (by decide +kernel) (by decide) rfl (Nat.le_of_ble_eq_true rfl)
theorem b96_5 (d : Nat) (h : J.H) (Q : J.O → J.H → Prop) (x0 x1 x2 : Int) : J.WP d 96 5 [J.R x0, J.I x1, J.R x2] [] h Q ↔ (J.sb (J.cl h x0) 86 = true) ∧ (J.WP d 96 15 [J.R x0, J.I x1, J.R x2] [J.I (J.gv h x0 8), J.I x1, J.R (J.gv h x0 7), J.R x2] h Q) := by
  refine (J.r_aload i96_5 rfl).trans ?_
  refine (J.r_aload i96_6 rfl).trans ?_
  refine (J.r_getR i96_7).trans (and_congr_right fun q0 => ?_)
  refine (J.r_iload i96_10 rfl).trans ?_
  refine (J.r_aload i96_11 rfl).trans ?_
  refine (J.r_getB i96_12).trans ((J.tru q0).trans ?_)
  exact Iff.rfl
theorem b96_15_c23 (d : Nat) (h : J.H) (Q : J.O → J.H → Prop) (x0 x1 x2 s0 s1 s2 s3 : Int) (hq : J.cl h s0 = 23) : J.WP d 96 15 [J.R x0, J.I x1, J.R x2] [J.I s3, J.I s2, J.R s1, J.R s0] h Q ↔ 0 < d ∧ J.WP (d - 1) 104 0 [J.R s0, J.R s1, J.I s2, J.I s3] [] h (J.af J.WP d 96 15 18 [J.R x0, J.I x1, J.R x2] [] Q) := by
  exact J.r_virt (k2 := 104) (m := 4) i96_15 rfl 23 hq (by decide +kernel) (by decide) rfl (Nat.le_of_ble_eq_true rfl)
theorem b96_15_c321 (d : Nat) (h : J.H) (Q : J.O → J.H → Prop) (x0 x1 x2 s0 s1 s2 s3 : Int) (hq : J.cl h s0 = 321) : J.WP d 96 15 [J.R x0, J.I x1, J.R x2] [J.I s3, J.I s2, J.R s1, J.R s0] h Q ↔ 0 < d ∧ J.WP (d - 1) 104 0 [J.R s0, J.R s1, J.I s2, J.I s3] [] h (J.af J.WP d 96 15 18 [J.R x0, J.I x1, J.R x2] [] Q) := by
  exact J.r_virt (k2 := 104) (m := 4) i96_15 rfl 321 hq (by decide +kernel) (by decide) rfl (Nat.le_of_ble_eq_true rfl)
theorem b96_18 (d : Nat) (h : J.H) (Q : J.O → J.H → Prop) (x0 x1 x2 : Int) : J.WP d 96 18 [J.R x0, J.I x1, J.R x2] [] h Q ↔ Q (Sum.inl none) h := by
  exact J.r_ret i96_18 rfl
/-! 97 java/lang/AbstractStringBuilder.inflateIfNeededFor(Ljava/lang/String;)V -/
theorem i97_0 : J.cd 97 0 = some (.getstatic 18, 3, 0, 0, 3) := by decide +kernel
theorem i97_3 : J.cd 97 3 = some (.ifCond .eq 18, 6, 21, 0, 0) := by decide +kernel
theorem i97_6 : J.cd 97 6 = some (.aload 0, 7, 0, 0, 0) := by decide +kernel
theorem i97_7 : J.cd 97 7 = some (.getfield 22, 10, 8, 86, 4) := by decide +kernel
theorem i97_10 : J.cd 97 10 = some (.aload 1, 11, 0, 0, 0) := by decide +kernel
theorem i97_11 : J.cd 97 11 = some (.invokevirtual 40, 14, 205, 0, 0) := by decide +kernel
theorem i97_14 : J.cd 97 14 = some (.if_icmp .eq 7, 17, 21, 0, 0) := by decide +kernel
theorem i97_17 : J.cd 97 17 = some (.aload 0, 18, 0, 0, 0) := by decide +kernel
theorem i97_18 : J.cd 97 18 = some (.invokevirtual 195, 21, 206, 0, 0) := by decide +kernel
theorem i97_21 : J.cd 97 21 = some (.return_, 22, 21, 0, 0) := by decide +kernel
theorem b97_0 (d : Nat) (h : J.H) (Q : J.O → J.H → Prop) (x0 x1 : Int) : J.WP d 97 0 [J.R x0, J.R x1] [] h Q ↔ if (J.gv h (-1) 0) = 0 then (J.WP d 97 21 [J.R x0, J.R x1] [] h Q) else ((J.sb (J.cl h x0) 86 = true) ∧ (J.WP d 97 11 [J.R x0, J.R x1] [J.R x1, J.I (J.gv h x0 8)] h Q)) := by
  refine (J.r_getsZ i97_0).trans ?_
  refine (J.r_ifeq i97_3).trans (J.ite2 ?_ ?_)
  · exact Iff.rfl
  · refine (J.r_aload i97_6 rfl).trans ?_
    refine (J.r_getB i97_7).trans (and_congr_right fun q0 => ?_)
    refine (J.r_aload i97_10 rfl).trans ?_
    exact Iff.rfl
theorem b97_11_c23 (d : Nat) (h : J.H) (Q : J.O → J.H → Prop) (x0 x1 s0 s1 : Int) (hq : J.cl h s1 = 23) : J.WP d 97 11 [J.R x0, J.R x1] [J.R s1, J.I s0] h Q ↔ 0 < d ∧ J.WP (d - 1) 95 0 [J.R s1] [] h (J.af J.WP d 97 11 14 [J.R x0, J.R x1] [J.I s0] Q) := by
  exact J.r_virt (k2 := 95) (m := 1) i97_11 rfl 23 hq (by decide +kernel) (by decide) rfl (Nat.le_of_ble_eq_true rfl)
theorem b97_11_c321 (d : Nat) (h : J.H) (Q : J.O → J.H → Prop) (x0 x1 s0 s1 : Int) (hq : J.cl h s1 = 321) : J.WP d 97 11 [J.R x0, J.R x1] [J.R s1, J.I s0] h Q ↔ 0 < d ∧ J.WP (d - 1) 95 0 [J.R s1] [] h (J.af J.WP d 97 11 14 [J.R x0, J.R x1] [J.I s0] Q) := by
  exact J.r_virt (k2 := 95) (m := 1) i97_11 rfl 321 hq (by decide +kernel) (by decide) rfl (Nat.le_of_ble_eq_true rfl)
theorem b97_14 (d : Nat) (h : J.H) (Q : J.O → J.H → Prop) (x0 x1 s0 s1 : Int) : J.WP d 97 14 [J.R x0, J.R x1] [J.I s1, J.I s0] h Q ↔ if s0 = s1 then (J.WP d 97 21 [J.R x0, J.R x1] [] h Q) else (J.cl h x0 = 4 ∧ 0 < d ∧ J.WP (d - 1) 98 0 [J.R x0, J.U] [] h (J.af J.WP d 97 18 21 [J.R x0, J.R x1] [] Q)) := by
  refine (J.r_iceq i97_14).trans (J.ite2 ?_ ?_)
  · exact Iff.rfl
  · refine (J.r_aload i97_17 rfl).trans ?_
    exact J.r_virt1 (k2 := 98) (m := 2) 4 i97_18 rfl (by decide +kernel) (by decide) rfl (Nat.le_of_ble_eq_true rfl)
theorem b97_21 (d : Nat) (h : J.H) (Q : J.O → J.H → Prop) (x0 x1 : Int) : J.WP d 97 21 [J.R x0, J.R x1] [] h Q ↔ Q (Sum.inl none) h := by
  exact J.r_ret i97_21 rfl
/-! 104 java/lang/String.getBytes([BIB)V -/
theorem i104_0 : J.cd 104 0 = some (.aload 0, 1, 0, 0, 0) := by decide +kernel
theorem i104_1 : J.cd 104 1 = some (.invokevirtual 335, 4, 205, 0, 0) := by decide +kernel
theorem i104_4 : J.cd 104 4 = some (.iload 3, 5, 0, 0, 0) := by decide +kernel
theorem i104_5 : J.cd 104 5 = some (.if_icmp .ne 23, 8, 28, 0, 0) := by decide +kernel
theorem i104_8 : J.cd 104 8 = some (.aload 0, 9, 0, 0, 0) := by decide +kernel
theorem i104_9 : J.cd 104 9 = some (.getfield 9, 12, 170, 23, 2) := by decide +kernel
theorem i104_12 : J.cd 104 12 = some (.iconst 0, 13, 12, 0, 0) := by decide +kernel
theorem i104_13 : J.cd 104 13 = some (.aload 1, 14, 0, 0, 0) := by decide +kernel
theorem i104_14 : J.cd 104 14 = some (.iload 2, 15, 0, 0, 0) := by decide +kernel
theorem i104_15 : J.cd 104 15 = some (.iload 3, 16, 0, 0, 0) := by decide +kernel
theorem i104_16 : J.cd 104 16 = some (.ishl, 17, 16, 0, 0) := by decide +kernel
theorem i104_17 : J.cd 104 17 = some (.aload 0, 18, 0, 0, 0) := by decide +kernel
theorem i104_18 : J.cd 104 18 = some (.getfield 9, 21, 170, 23, 2) := by decide +kernel
theorem i104_21 : J.cd 104 21 = some (.arraylength, 22, 21, 0, 0) := by decide +kernel
theorem i104_22 : J.cd 104 22 = some (.invokestatic 212, 25, 2000, 5, 0) := by decide +kernel
theorem i104_25 : J.cd 104 25 = some (.goto 18, 28, 43, 0, 0) := by decide +kernel
theorem i104_28 : J.cd 104 28 = some (.aload 0, 29, 0, 0, 0) := by decide +kernel
theorem i104_29 : J.cd 104 29 = some (.getfield 9, 32, 170, 23, 2) := by decide +kernel
theorem i104_32 : J.cd 104 32 = some (.iconst 0, 33, 32, 0, 0) := by decide +kernel
theorem i104_33 : J.cd 104 33 = some (.aload 1, 34, 0, 0, 0) := by decide +kernel
theorem i104_34 : J.cd 104 34 = some (.iload 2, 35, 0, 0, 0) := by decide +kernel
theorem i104_35 : J.cd 104 35 = some (.aload 0, 36, 0, 0, 0) := by decide +kernel
theorem i104_36 : J.cd 104 36 = some (.getfield 9, 39, 170, 23, 2) := by decide +kernel
theorem i104_39 : J.cd 104 39 = some (.arraylength, 40, 39, 0, 0) := by decide +kernel
theorem i104_40 : J.cd 104 40 = some (.invokestatic 106, 43, 99, 5, 5) := by decide +kernel
theorem i104_43 : J.cd 104 43 = some (.return_, 44, 43, 0, 0) := by decide +kernel
theorem b104_0 (d : Nat) (h : J.H) (Q : J.O → J.H → Prop) (x0 x1 x2 x3 : Int) : J.WP d 104 0 [J.R x0, J.R x1, J.I x2, J.I x3] [] h Q ↔ J.WP d 104 1 [J.R x0, J.R x1, J.I x2, J.I x3] [J.R x0] h Q := by
  refine (J.r_aload i104_0 rfl).trans ?_
  exact Iff.rfl
theorem b104_1_c23 (d : Nat) (h : J.H) (Q : J.O → J.H → Prop) (x0 x1 x2 x3 s0 : Int) (hq : J.cl h s0 = 23) : J.WP d 104 1 [J.R x0, J.R x1, J.I x2, J.I x3] [J.R s0] h Q ↔ 0 < d ∧ J.WP (d - 1) 95 0 [J.R s0] [] h (J.af J.WP d 104 1 4 [J.R x0, J.R x1, J.I x2, J.I x3] [] Q) := by
  exact J.r_virt (k2 := 95) (m := 1) i104_1 rfl 23 hq (by decide +kernel) (by decide) rfl (Nat.le_of_ble_eq_true rfl)
theorem b104_1_c321 (d : Nat) (h : J.H) (Q : J.O → J.H → Prop) (x0 x1 x2 x3 s0 : Int) (hq : J.cl h s0 = 321) : J.WP d 104 1 [J.R x0, J.R x1, J.I x2, J.I x3] [J.R s0] h Q ↔ 0 < d ∧ J.WP (d - 1) 95 0 [J.R s0] [] h (J.af J.WP d 104 1 4 [J.R x0, J.R x1, J.I x2, J.I x3] [] Q) := by
  exact J.r_virt (k2 := 95) (m := 1) i104_1 rfl 321 hq (by decide +kernel) (by decide) rfl (Nat.le_of_ble_eq_true rfl)
theorem b104_4 (d : Nat) (h : J.H) (Q : J.O → J.H → Prop) (x0 x1 x2 x3 s0 : Int) : J.WP d 104 4 [J.R x0, J.R x1, J.I x2, J.I x3] [J.I s0] h Q ↔ if s0 = x3 then ((J.sb (J.cl h x0) 23 = true) ∧ ((J.ia (J.cl h (J.gv h x0 170)) = true) ∧ (((0 : Int) ≤ (J.ln h (J.gv h x0 170)) ∧ (0 : Int) ≤ 0 ∧ (0 : Int) ≤ (J.shl32 x2 x3) ∧ 0 + (J.ln h (J.gv h x0 170)) ≤ J.ln h (J.gv h x0 170) ∧ (J.shl32 x2 x3) + (J.ln h (J.gv h x0 170)) ≤ J.ln h x1 ∧ J.cl h x1 < 300 ∧ ((J.isA (J.cl h (J.gv h x0 170)) 3 = true ∧ J.cl h x1 = 204 ∧ J.cl h (J.gv h x0 170) ≠ 203) ∨ (J.isA (J.cl h (J.gv h x0 170)) 2 = true ∧ J.cl h x1 = 214 ∧ J.vld h (J.gv h x0 170) 0 (J.ln h (J.gv h x0 170)) = true))) ∧ (J.WP d 104 43 [J.R x0, J.R x1, J.I x2, J.I x3] [] (J.cpy h (J.gv h x0 170) 0 x1 (J.shl32 x2 x3) (J.ln h (J.gv h x0 170))) Q)))) else ((J.sb (J.cl h x0) 23 = true) ∧ ((J.ia (J.cl h (J.gv h x0 170)) = true) ∧ (0 < d ∧ J.WP (d - 1) 99 0 [J.R (J.gv h x0 170), J.I 0, J.R x1, J.I x2, J.I (J.ln h (J.gv h x0 170))] [] h (J.af J.WP d 104 40 43 [J.R x0, J.R x1, J.I x2, J.I x3] [] Q)))) := by
  refine (J.r_iload i104_4 rfl).trans ?_
  refine (J.r_icne i104_5).trans (J.ite2 ?_ ?_)
  · refine (J.r_aload i104_8 rfl).trans ?_
    refine (J.r_getR i104_9).trans (and_congr_right fun q0 => ?_)
    refine (J.r_iconst i104_12).trans ?_
    refine (J.r_aload i104_13 rfl).trans ?_
    refine (J.r_iload i104_14 rfl).trans ?_
    refine (J.r_iload i104_15 rfl).trans ?_
    refine (J.r_ishl i104_16).trans ?_
    refine (J.r_aload i104_17 rfl).trans ?_
    refine (J.r_getR i104_18).trans ((J.tru q0).trans ?_)
    refine (J.r_alen i104_21).trans (and_congr_right fun q1 => ?_)
    refine (J.r_acopy i104_22).trans (and_congr_right fun q2 => ?_)
    refine (J.r_goto i104_25).trans ?_
    exact Iff.rfl
  · refine (J.r_aload i104_28 rfl).trans ?_
    refine (J.r_getR i104_29).trans (and_congr_right fun q0 => ?_)
    refine (J.r_iconst i104_32).trans ?_
    refine (J.r_aload i104_33 rfl).trans ?_
    refine (J.r_iload i104_34 rfl).trans ?_
    refine (J.r_aload i104_35 rfl).trans ?_
    refine (J.r_getR i104_36).trans ((J.tru q0).trans ?_)
    refine (J.r_alen i104_39).trans (and_congr_right fun q1 => ?_)
    exact J.r_stat i104_40 (by decide) (Nat.le_of_ble_eq_true rfl) rfl rfl (Nat.le_of_ble_eq_true rfl)
theorem b104_43 (d : Nat) (h : J.H) (Q : J.O → J.H → Prop) (x0 x1 x2 x3 : Int) : J.WP d 104 43 [J.R x0, J.R x1, J.I x2, J.I x3] [] h Q ↔ Q (Sum.inl none) h := by
  exact J.r_ret i104_43 rfl
/-! 105 java/lang/StringBuilder.append(I)Ljava/lang/StringBuilder; -/
theorem i105_0 : J.cd 105 0 = some (.aload 0, 1, 0, 0, 0) := by decide +kernel
theorem i105_1 : J.cd 105 1 = some (.iload 1, 2, 0, 0, 0) := by decide +kernel
theorem i105_2 : J.cd 105 2 = some (.invokespecial 53, 5, 106, 2, 4) := by decide +kernel
theorem i105_5 : J.cd 105 5 = some (.pop, 6, 5, 0, 0) := by decide +kernel
theorem i105_6 : J.cd 105 6 = some (.aload 0, 7, 0, 0, 0) := by decide +kernel
theorem i105_7 : J.cd 105 7 = some (.areturn, 8, 7, 0, 0) := by decide +kernel
theorem b105_0 (d : Nat) (h : J.H) (Q : J.O → J.H → Prop) (x0 x1 : Int) : J.WP d 105 0 [J.R x0, J.I x1] [] h Q ↔ J.ik (J.cl h x0) = true ∧ 0 < d ∧ J.WP (d - 1) 106 0 [J.R x0, J.I x1, J.U, J.U] [] h (J.af J.WP d 105 2 5 [J.R x0, J.I x1] [] Q) := by
  refine (J.r_aload i105_0 rfl).trans ?_
  refine (J.r_iload i105_1 rfl).trans ?_
  exact J.r_spec i105_2 (by decide) ⟨by decide, Nat.le_of_ble_eq_true rfl⟩ rfl rfl (Nat.le_of_ble_eq_true rfl)
theorem b105_5 (d : Nat) (h : J.H) (Q : J.O → J.H → Prop) (x0 x1 s0 : Int) : J.WP d 105 5 [J.R x0, J.I x1] [J.R s0] h Q ↔ Q (Sum.inl (some (J.R x0))) h := by
  refine (J.r_popR i105_5).trans ?_
  refine (J.r_aload i105_6 rfl).trans ?_
  exact J.r_aret i105_7 rfl
/-! 106 java/lang/AbstractStringBuilder.append(I)Ljava/lang/AbstractStringBuilder; -/
theorem i106_0 : J.cd 106 0 = some (.aload 0, 1, 0, 0, 0) := by decide +kernel
theorem i106_1 : J.cd 106 1 = some (.getfield 79, 4, 10, 86, 0) := by decide +kernel
theorem i106_4 : J.cd 106 4 = some (.istore 2, 5, 0, 0, 0) := by decide +kernel
theorem i106_5 : J.cd 106 5 = some (.iload 2, 6, 0, 0, 0) := by decide +kernel
theorem i106_6 : J.cd 106 6 = some (.iload 1, 7, 0, 0, 0) := by decide +kernel
theorem i106_7 : J.cd 106 7 = some (.invokestatic 245, 10, 107, 1, 4) := by decide +kernel
theorem i106_10 : J.cd 106 10 = some (.iadd, 11, 10, 0, 0) := by decide +kernel
theorem i106_11 : J.cd 106 11 = some (.istore 3, 12, 0, 0, 0) := by decide +kernel
theorem i106_12 : J.cd 106 12 = some (.aload 0, 13, 0, 0, 0) := by decide +kernel
theorem i106_13 : J.cd 106 13 = some (.iload 3, 14, 0, 0, 0) := by decide +kernel
theorem i106_14 : J.cd 106 14 = some (.invokevirtual 100, 17, 199, 1, 0) := by decide +kernel
theorem i106_17 : J.cd 106 17 = some (.aload 0, 18, 0, 0, 0) := by decide +kernel
theorem i106_18 : J.cd 106 18 = some (.invokevirtual 83, 21, 201, 0, 0) := by decide +kernel
theorem i106_21 : J.cd 106 21 = some (.ifCond .eq 16, 24, 37, 0, 0) := by decide +kernel
theorem i106_24 : J.cd 106 24 = some (.iload 1, 25, 0, 0, 0) := by decide +kernel
theorem i106_25 : J.cd 106 25 = some (.iload 3, 26, 0, 0, 0) := by decide +kernel
theorem i106_26 : J.cd 106 26 = some (.aload 0, 27, 0, 0, 0) := by decide +kernel
theorem i106_27 : J.cd 106 27 = some (.getfield 15, 30, 7, 86, 2) := by decide +kernel
theorem i106_30 : J.cd 106 30 = some (.invokestatic 248, 33, 108, 3, 7) := by decide +kernel
theorem i106_33 : J.cd 106 33 = some (.pop, 34, 33, 0, 0) := by decide +kernel
theorem i106_34 : J.cd 106 34 = some (.goto 14, 37, 48, 0, 0) := by decide +kernel
theorem i106_37 : J.cd 106 37 = some (.iload 1, 38, 0, 0, 0) := by decide +kernel
theorem i106_38 : J.cd 106 38 = some (.iload 2, 39, 0, 0, 0) := by decide +kernel
theorem i106_39 : J.cd 106 39 = some (.iload 3, 40, 0, 0, 0) := by decide +kernel
theorem i106_40 : J.cd 106 40 = some (.aload 0, 41, 0, 0, 0) := by decide +kernel
theorem i106_41 : J.cd 106 41 = some (.getfield 15, 44, 7, 86, 2) := by decide +kernel
theorem i106_44 : J.cd 106 44 = some (.invokestatic 251, 47, 109, 4, 5) := by decide +kernel
theorem i106_47 : J.cd 106 47 = some (.pop, 48, 47, 0, 0) := by decide +kernel
theorem i106_48 : J.cd 106 48 = some (.aload 0, 49, 0, 0, 0) := by decide +kernel
theorem i106_49 : J.cd 106 49 = some (.iload 3, 50, 0, 0, 0) := by decide +kernel
theorem i106_50 : J.cd 106 50 = some (.putfield 79, 53, 10, 86, 0) := by decide +kernel
theorem i106_53 : J.cd 106 53 = some (.aload 0, 54, 0, 0, 0) := by decide +kernel
theorem i106_54 : J.cd 106 54 = some (.areturn, 55, 54, 0, 0) := by decide +kernel
theorem b106_0 (d : Nat) (h : J.H) (Q : J.O → J.H → Prop) (x0 x1 : Int) : J.WP d 106 0 [J.R x0, J.I x1, J.U, J.U] [] h Q ↔ (J.sb (J.cl h x0) 86 = true) ∧ (0 < d ∧ J.WP (d - 1) 107 0 [J.I x1, J.U, J.U, J.U] [] h (J.af J.WP d 106 7 10 [J.R x0, J.I x1, J.I (J.gv h x0 10), J.U] [J.I (J.gv h x0 10)] Q)) := by
  refine (J.r_aload i106_0 rfl).trans ?_
  refine (J.r_getI i106_1).trans (and_congr_right fun q0 => ?_)
  refine (J.r_istore i106_4 (Nat.le_of_ble_eq_true rfl) rfl).trans ?_
  refine (J.r_iload i106_5 rfl).trans ?_
  refine (J.r_iload i106_6 rfl).trans ?_
  exact J.r_stat i106_7 (by decide) (Nat.le_of_ble_eq_true rfl) rfl rfl (Nat.le_of_ble_eq_true rfl)
theorem b106_10 (d : Nat) (h : J.H) (Q : J.O → J.H → Prop) (x0 x1 x2 s0 s1 : Int) : J.WP d 106 10 [J.R x0, J.I x1, J.I x2, J.U] [J.I s1, J.I s0] h Q ↔ J.cl h x0 = 4 ∧ 0 < d ∧ J.WP (d - 1) 78 0 [J.R x0, J.I (J.w32 (s0 + s1)), J.U] [] h (J.af J.WP d 106 14 17 [J.R x0, J.I x1, J.I x2, J.I (J.w32 (s0 + s1))] [] Q) := by
  refine (J.r_iadd i106_10).trans ?_
  refine (J.r_istore i106_11 (Nat.le_of_ble_eq_true rfl) rfl).trans ?_
  refine (J.r_aload i106_12 rfl).trans ?_
  refine (J.r_iload i106_13 rfl).trans ?_
  exact J.r_virt1 (k2 := 78) (m := 3) 4 i106_14 rfl (by decide +kernel) (by decide) rfl (Nat.le_of_ble_eq_true rfl)
theorem b106_17 (d : Nat) (h : J.H) (Q : J.O → J.H → Prop) (x0 x1 x2 x3 : Int) : J.WP d 106 17 [J.R x0, J.I x1, J.I x2, J.I x3] [] h Q ↔ J.cl h x0 = 4 ∧ 0 < d ∧ J.WP (d - 1) 81 0 [J.R x0] [] h (J.af J.WP d 106 18 21 [J.R x0, J.I x1, J.I x2, J.I x3] [] Q) := by
  refine (J.r_aload i106_17 rfl).trans ?_
  exact J.r_virt1 (k2 := 81) (m := 1) 4 i106_18 rfl (by decide +kernel) (by decide) rfl (Nat.le_of_ble_eq_true rfl)
theorem b106_21 (d : Nat) (h : J.H) (Q : J.O → J.H → Prop) (x0 x1 x2 x3 s0 : Int) : J.WP d 106 21 [J.R x0, J.I x1, J.I x2, J.I x3] [J.I s0] h Q ↔ if s0 = 0 then ((J.sb (J.cl h x0) 86 = true) ∧ (0 < d ∧ J.WP (d - 1) 109 0 [J.I x1, J.I x2, J.I x3, J.R (J.gv h x0 7), J.U] [] h (J.af J.WP d 106 44 47 [J.R x0, J.I x1, J.I x2, J.I x3] [] Q))) else ((J.sb (J.cl h x0) 86 = true) ∧ (0 < d ∧ J.WP (d - 1) 108 0 [J.I x1, J.I x3, J.R (J.gv h x0 7), J.U, J.U, J.U, J.U] [] h (J.af J.WP d 106 30 33 [J.R x0, J.I x1, J.I x2, J.I x3] [] Q))) := by
  refine (J.r_ifeq i106_21).trans (J.ite2 ?_ ?_)
  · refine (J.r_iload i106_37 rfl).trans ?_
    refine (J.r_iload i106_38 rfl).trans ?_
    refine (J.r_iload i106_39 rfl).trans ?_
    refine (J.r_aload i106_40 rfl).trans ?_
    refine (J.r_getR i106_41).trans (and_congr_right fun q0 => ?_)
    exact J.r_stat i106_44 (by decide) (Nat.le_of_ble_eq_true rfl) rfl rfl (Nat.le_of_ble_eq_true rfl)
  · refine (J.r_iload i106_24 rfl).trans ?_
    refine (J.r_iload i106_25 rfl).trans ?_
    refine (J.r_aload i106_26 rfl).trans ?_
    refine (J.r_getR i106_27).trans (and_congr_right fun q0 => ?_)
    exact J.r_stat i106_30 (by decide) (Nat.le_of_ble_eq_true rfl) rfl rfl (Nat.le_of_ble_eq_true rfl)
theorem b106_33 (d : Nat) (h : J.H) (Q : J.O → J.H → Prop) (x0 x1 x2 x3 s0 : Int) : J.WP d 106 33 [J.R x0, J.I x1, J.I x2, J.I x3] [J.I s0] h Q ↔ J.WP d 106 48 [J.R x0, J.I x1, J.I x2, J.I x3] [] h Q := by
  refine (J.r_popI i106_33).trans ?_
  refine (J.r_goto i106_34).trans ?_
  exact Iff.rfl
theorem b106_47 (d : Nat) (h : J.H) (Q : J.O → J.H → Prop) (x0 x1 x2 x3 s0 : Int) : J.WP d 106 47 [J.R x0, J.I x1, J.I x2, J.I x3] [J.I s0] h Q ↔ J.WP d 106 48 [J.R x0, J.I x1, J.I x2, J.I x3] [] h Q := by
  refine (J.r_popI i106_47).trans ?_
  exact Iff.rfl
theorem b106_48 (d : Nat) (h : J.H) (Q : J.O → J.H → Prop) (x0 x1 x2 x3 : Int) : J.WP d 106 48 [J.R x0, J.I x1, J.I x2, J.I x3] [] h Q ↔ (J.sb (J.cl h x0) 86 = true ∧ J.cl h x0 < 300) ∧ (Q (Sum.inl (some (J.R x0))) (J.sv h x0 10 x3)) := by
  refine (J.r_aload i106_48 rfl).trans ?_
  refine (J.r_iload i106_49 rfl).trans ?_
  refine (J.r_putI i106_50).trans (and_congr_right fun q0 => ?_)
  refine (J.r_aload i106_53 rfl).trans ?_
  exact J.r_aret i106_54 rfl
/-! 107 java/lang/Integer.stringSize(I)I -/
theorem i107_0 : J.cd 107 0 = some (.iconst 1, 1, 0, 0, 0) := by decide +kernel
theorem i107_1 : J.cd 107 1 = some (.istore 1, 2, 0, 0, 0) := by decide +kernel
theorem i107_2 : J.cd 107 2 = some (.iload 0, 3, 0, 0, 0) := by decide +kernel
theorem i107_3 : J.cd 107 3 = some (.ifCond .lt 8, 6, 11, 0, 0) := by decide +kernel
theorem i107_6 : J.cd 107 6 = some (.iconst 0, 7, 6, 0, 0) := by decide +kernel
theorem i107_7 : J.cd 107 7 = some (.istore 1, 8, 0, 0, 0) := by decide +kernel
theorem i107_8 : J.cd 107 8 = some (.iload 0, 9, 0, 0, 0) := by decide +kernel
theorem i107_9 : J.cd 107 9 = some (.ineg, 10, 9, 0, 0) := by decide +kernel
theorem i107_10 : J.cd 107 10 = some (.istore 0, 11, 0, 0, 0) := by decide +kernel
theorem i107_11 : J.cd 107 11 = some (.iconst (-10), 13, 0, 0, 0) := by decide +kernel
theorem i107_13 : J.cd 107 13 = some (.istore 2, 14, 0, 0, 0) := by decide +kernel
theorem i107_14 : J.cd 107 14 = some (.iconst 1, 15, 14, 0, 0) := by decide +kernel
theorem i107_15 : J.cd 107 15 = some (.istore 3, 16, 0, 0, 0) := by decide +kernel
theorem i107_16 : J.cd 107 16 = some (.iload 3, 17, 0, 0, 0) := by decide +kernel
theorem i107_17 : J.cd 107 17 = some (.iconst 10, 19, 0, 0, 0) := by decide +kernel
theorem i107_19 : J.cd 107 19 = some (.if_icmp .ge 23, 22, 42, 0, 0) := by decide +kernel
theorem i107_22 : J.cd 107 22 = some (.iload 0, 23, 0, 0, 0) := by decide +kernel
theorem i107_23 : J.cd 107 23 = some (.iload 2, 24, 0, 0, 0) := by decide +kernel
theorem i107_24 : J.cd 107 24 = some (.if_icmp .le 7, 27, 31, 0, 0) := by decide +kernel
theorem i107_27 : J.cd 107 27 = some (.iload 3, 28, 0, 0, 0) := by decide +kernel
theorem i107_28 : J.cd 107 28 = some (.iload 1, 29, 0, 0, 0) := by decide +kernel
theorem i107_29 : J.cd 107 29 = some (.iadd, 30, 29, 0, 0) := by decide +kernel
theorem i107_30 : J.cd 107 30 = some (.ireturn, 31, 0, 0, 0) := by decide +kernel
theorem i107_31 : J.cd 107 31 = some (.iconst 10, 33, 0, 0, 0) := by decide +kernel
theorem i107_33 : J.cd 107 33 = some (.iload 2, 34, 0, 0, 0) := by decide +kernel
theorem i107_34 : J.cd 107 34 = some (.imul, 35, 34, 0, 0) := by decide +kernel
theorem i107_35 : J.cd 107 35 = some (.istore 2, 36, 0, 0, 0) := by decide +kernel
theorem i107_36 : J.cd 107 36 = some (.iinc 3 1, 39, 36, 0, 0) := by decide +kernel
theorem i107_39 : J.cd 107 39 = some (.goto (-23), 42, 16, 0, 0) := by decide +kernel
theorem i107_42 : J.cd 107 42 = some (.iconst 10, 44, 0, 0, 0) := by decide +kernel
theorem i107_44 : J.cd 107 44 = some (.iload 1, 45, 0, 0, 0) := by decide +kernel
theorem i107_45 : J.cd 107 45 = some (.iadd, 46, 45, 0, 0) := by decide +kernel
theorem i107_46 : J.cd 107 46 = some (.ireturn, 47, 0, 0, 0) := by decide +kernel
theorem b107_0 (d : Nat) (h : J.H) (Q : J.O → J.H → Prop) (x0 : Int) : J.WP d 107 0 [J.I x0, J.U, J.U, J.U] [] h Q ↔ if x0 < 0 then (J.WP d 107 11 [J.I x0, J.I 1, J.U, J.U] [] h Q) else (J.WP d 107 11 [J.I (J.w32 (-x0)), J.I 0, J.U, J.U] [] h Q) := by
  refine (J.r_iconst i107_0).trans ?_
  refine (J.r_istore i107_1 (Nat.le_of_ble_eq_true rfl) rfl).trans ?_
  refine (J.r_iload i107_2 rfl).trans ?_
  refine (J.r_iflt i107_3).trans (J.ite2 ?_ ?_)
  · exact Iff.rfl
  · refine (J.r_iconst i107_6).trans ?_
    refine (J.r_istore i107_7 (Nat.le_of_ble_eq_true rfl) rfl).trans ?_
    refine (J.r_iload i107_8 rfl).trans ?_
    refine (J.r_ineg i107_9).trans ?_
    refine (J.r_istore i107_10 (Nat.le_of_ble_eq_true rfl) rfl).trans ?_
    exact Iff.rfl
theorem b107_11 (d : Nat) (h : J.H) (Q : J.O → J.H → Prop) (x0 x1 : Int) : J.WP d 107 11 [J.I x0, J.I x1, J.U, J.U] [] h Q ↔ J.WP d 107 16 [J.I x0, J.I x1, J.I (-10), J.I 1] [] h Q := by
  refine (J.r_iconst i107_11).trans ?_
  refine (J.r_istore i107_13 (Nat.le_of_ble_eq_true rfl) rfl).trans ?_
  refine (J.r_iconst i107_14).trans ?_
  refine (J.r_istore i107_15 (Nat.le_of_ble_eq_true rfl) rfl).trans ?_
  exact Iff.rfl
theorem b107_16 (d : Nat) (h : J.H) (Q : J.O → J.H → Prop) (x0 x1 x2 x3 : Int) : J.WP d 107 16 [J.I x0, J.I x1, J.I x2, J.I x3] [] h Q ↔ if x3 < 10 then (if x0 ≤ x2 then (J.WP d 107 16 [J.I x0, J.I x1, J.I (J.w32 (10 * x2)), J.I (J.w32 (x3 + 1))] [] h Q) else (Q (Sum.inl (some (J.I (J.w32 (x3 + x1))))) h)) else (Q (Sum.inl (some (J.I (J.w32 (10 + x1))))) h) := by
  refine (J.r_iload i107_16 rfl).trans ?_
  refine (J.r_iconst i107_17).trans ?_
  refine (J.r_icge i107_19).trans (J.ite2 ?_ ?_)
  · refine (J.r_iload i107_22 rfl).trans ?_
    refine (J.r_iload i107_23 rfl).trans ?_
    refine (J.r_icle i107_24).trans (J.ite2 ?_ ?_)
    · refine (J.r_iconst i107_31).trans ?_
      refine (J.r_iload i107_33 rfl).trans ?_
      refine (J.r_imul i107_34).trans ?_
      refine (J.r_istore i107_35 (Nat.le_of_ble_eq_true rfl) rfl).trans ?_
      refine (J.r_iinc i107_36 rfl rfl).trans ?_
      refine (J.r_goto i107_39).trans ?_
      exact Iff.rfl
    · refine (J.r_iload i107_27 rfl).trans ?_
      refine (J.r_iload i107_28 rfl).trans ?_
      refine (J.r_iadd i107_29).trans ?_
      exact J.r_iret i107_30 rfl
  · refine (J.r_iconst i107_42).trans ?_
    refine (J.r_iload i107_44 rfl).trans ?_
    refine (J.r_iadd i107_45).trans ?_
    exact J.r_iret i107_46 rfl
/-! 108 java/lang/Integer.getChars(II[B)I -/
theorem i108_0 : J.cd 108 0 = some (.iload 1, 1, 0, 0, 0) := by decide +kernel
theorem i108_1 : J.cd 108 1 = some (.istore 5, 3, 1, 0, 0) := by decide +kernel
theorem i108_3 : J.cd 108 3 = some (.iload 0, 4, 0, 0, 0) := by decide +kernel
theorem i108_4 : J.cd 108 4 = some (.ifCond .ge 7, 7, 11, 0, 0) := by decide +kernel
theorem i108_7 : J.cd 108 7 = some (.iconst 1, 8, 7, 0, 0) := by decide +kernel
theorem i108_8 : J.cd 108 8 = some (.goto 4, 11, 12, 0, 0) := by decide +kernel
theorem i108_11 : J.cd 108 11 = some (.iconst 0, 12, 11, 0, 0) := by decide +kernel
theorem i108_12 : J.cd 108 12 = some (.istore 6, 14, 12, 0, 0) := by decide +kernel
theorem i108_14 : J.cd 108 14 = some (.iload 6, 16, 14, 0, 0) := by decide +kernel
theorem i108_16 : J.cd 108 16 = some (.ifCond .ne 6, 19, 22, 0, 0) := by decide +kernel
theorem i108_19 : J.cd 108 19 = some (.iload 0, 20, 0, 0, 0) := by decide +kernel
theorem i108_20 : J.cd 108 20 = some (.ineg, 21, 20, 0, 0) := by decide +kernel
theorem i108_21 : J.cd 108 21 = some (.istore 0, 22, 0, 0, 0) := by decide +kernel
theorem i108_22 : J.cd 108 22 = some (.iload 0, 23, 0, 0, 0) := by decide +kernel
theorem i108_23 : J.cd 108 23 = some (.iconst (-100), 25, 0, 0, 0) := by decide +kernel
theorem i108_25 : J.cd 108 25 = some (.if_icmp .gt 47, 28, 72, 0, 0) := by decide +kernel
theorem i108_28 : J.cd 108 28 = some (.iload 0, 29, 0, 0, 0) := by decide +kernel
theorem i108_29 : J.cd 108 29 = some (.iconst 100, 31, 0, 0, 0) := by decide +kernel
theorem i108_31 : J.cd 108 31 = some (.idiv, 32, 31, 0, 0) := by decide +kernel
theorem i108_32 : J.cd 108 32 = some (.istore 3, 33, 0, 0, 0) := by decide +kernel
theorem i108_33 : J.cd 108 33 = some (.iload 3, 34, 0, 0, 0) := by decide +kernel
theorem i108_34 : J.cd 108 34 = some (.iconst 100, 36, 0, 0, 0) := by decide +kernel
theorem i108_36 : J.cd 108 36 = some (.imul, 37, 36, 0, 0) := by decide +kernel
theorem i108_37 : J.cd 108 37 = some (.iload 0, 38, 0, 0, 0) := by decide +kernel
theorem i108_38 : J.cd 108 38 = some (.isub, 39, 38, 0, 0) := by decide +kernel
theorem i108_39 : J.cd 108 39 = some (.istore 4, 41, 39, 0, 0) := by decide +kernel
theorem i108_41 : J.cd 108 41 = some (.iload 3, 42, 0, 0, 0) := by decide +kernel
theorem i108_42 : J.cd 108 42 = some (.istore 0, 43, 0, 0, 0) := by decide +kernel
theorem i108_43 : J.cd 108 43 = some (.aload 2, 44, 0, 0, 0) := by decide +kernel
theorem i108_44 : J.cd 108 44 = some (.iinc 5 (-1), 47, 44, 0, 0) := by decide +kernel
theorem i108_47 : J.cd 108 47 = some (.iload 5, 49, 47, 0, 0) := by decide +kernel
theorem i108_49 : J.cd 108 49 = some (.getstatic 83, 52, 9, 0, 2) := by decide +kernel
theorem i108_52 : J.cd 108 52 = some (.iload 4, 54, 52, 0, 0) := by decide +kernel
theorem i108_54 : J.cd 108 54 = some (.baload, 55, 54, 0, 0) := by decide +kernel
theorem i108_55 : J.cd 108 55 = some (.bastore, 56, 55, 0, 0) := by decide +kernel
theorem i108_56 : J.cd 108 56 = some (.aload 2, 57, 0, 0, 0) := by decide +kernel
theorem i108_57 : J.cd 108 57 = some (.iinc 5 (-1), 60, 57, 0, 0) := by decide +kernel
theorem i108_60 : J.cd 108 60 = some (.iload 5, 62, 60, 0, 0) := by decide +kernel
theorem i108_62 : J.cd 108 62 = some (.getstatic 87, 65, 10, 0, 2) := by decide +kernel
theorem i108_65 : J.cd 108 65 = some (.iload 4, 67, 65, 0, 0) := by decide +kernel
theorem i108_67 : J.cd 108 67 = some (.baload, 68, 67, 0, 0) := by decide +kernel
theorem i108_68 : J.cd 108 68 = some (.bastore, 69, 68, 0, 0) := by decide +kernel
theorem i108_69 : J.cd 108 69 = some (.goto (-47), 72, 22, 0, 0) := by decide +kernel
theorem i108_72 : J.cd 108 72 = some (.aload 2, 73, 0, 0, 0) := by decide +kernel
theorem i108_73 : J.cd 108 73 = some (.iinc 5 (-1), 76, 73, 0, 0) := by decide +kernel
theorem i108_76 : J.cd 108 76 = some (.iload 5, 78, 76, 0, 0) := by decide +kernel
theorem i108_78 : J.cd 108 78 = some (.getstatic 83, 81, 9, 0, 2) := by decide +kernel
theorem i108_81 : J.cd 108 81 = some (.iload 0, 82, 0, 0, 0) := by decide +kernel
theorem i108_82 : J.cd 108 82 = some (.ineg, 83, 82, 0, 0) := by decide +kernel
theorem i108_83 : J.cd 108 83 = some (.baload, 84, 83, 0, 0) := by decide +kernel
theorem i108_84 : J.cd 108 84 = some (.bastore, 85, 84, 0, 0) := by decide +kernel
theorem i108_85 : J.cd 108 85 = some (.iload 0, 86, 0, 0, 0) := by decide +kernel
theorem i108_86 : J.cd 108 86 = some (.iconst (-9), 88, 0, 0, 0) := by decide +kernel
theorem i108_88 : J.cd 108 88 = some (.if_icmp .ge 16, 91, 104, 0, 0) := by decide +kernel
theorem i108_91 : J.cd 108 91 = some (.aload 2, 92, 0, 0, 0) := by decide +kernel
theorem i108_92 : J.cd 108 92 = some (.iinc 5 (-1), 95, 92, 0, 0) := by decide +kernel
theorem i108_95 : J.cd 108 95 = some (.iload 5, 97, 95, 0, 0) := by decide +kernel
theorem i108_97 : J.cd 108 97 = some (.getstatic 87, 100, 10, 0, 2) := by decide +kernel
theorem i108_100 : J.cd 108 100 = some (.iload 0, 101, 0, 0, 0) := by decide +kernel
theorem i108_101 : J.cd 108 101 = some (.ineg, 102, 101, 0, 0) := by decide +kernel
theorem i108_102 : J.cd 108 102 = some (.baload, 103, 102, 0, 0) := by decide +kernel
theorem i108_103 : J.cd 108 103 = some (.bastore, 104, 103, 0, 0) := by decide +kernel
theorem i108_104 : J.cd 108 104 = some (.iload 6, 106, 104, 0, 0) := by decide +kernel
theorem i108_106 : J.cd 108 106 = some (.ifCond .eq 12, 109, 118, 0, 0) := by decide +kernel
theorem i108_109 : J.cd 108 109 = some (.aload 2, 110, 0, 0, 0) := by decide +kernel
theorem i108_110 : J.cd 108 110 = some (.iinc 5 (-1), 113, 110, 0, 0) := by decide +kernel
theorem i108_113 : J.cd 108 113 = some (.iload 5, 115, 113, 0, 0) := by decide +kernel
theorem i108_115 : J.cd 108 115 = some (.iconst 45, 117, 0, 0, 0) := by decide +kernel
theorem i108_117 : J.cd 108 117 = some (.bastore, 118, 117, 0, 0) := by decide +kernel
theorem i108_118 : J.cd 108 118 = some (.iload 5, 120, 118, 0, 0) := by decide +kernel
theorem i108_120 : J.cd 108 120 = some (.ireturn, 121, 0, 0, 0) := by decide +kernel
theorem b108_0 (d : Nat) (h : J.H) (Q : J.O → J.H → Prop) (x0 x1 x2 : Int) : J.WP d 108 0 [J.I x0, J.I x1, J.R x2, J.U, J.U, J.U, J.U] [] h Q ↔ if x0 < 0 then (J.WP d 108 12 [J.I x0, J.I x1, J.R x2, J.U, J.U, J.I x1, J.U] [J.I 1] h Q) else (J.WP d 108 12 [J.I x0, J.I x1, J.R x2, J.U, J.U, J.I x1, J.U] [J.I 0] h Q) := by
  refine (J.r_iload i108_0 rfl).trans ?_
  refine (J.r_istore i108_1 (Nat.le_of_ble_eq_true rfl) rfl).trans ?_
  refine (J.r_iload i108_3 rfl).trans ?_
  refine (J.r_ifge i108_4).trans (J.ite2 ?_ ?_)
  · refine (J.r_iconst i108_7).trans ?_
    refine (J.r_goto i108_8).trans ?_
    exact Iff.rfl
  · refine (J.r_iconst i108_11).trans ?_
    exact Iff.rfl
theorem b108_12 (d : Nat) (h : J.H) (Q : J.O → J.H → Prop) (x0 x1 x2 x5 s0 : Int) : J.WP d 108 12 [J.I x0, J.I x1, J.R x2, J.U, J.U, J.I x5, J.U] [J.I s0] h Q ↔ if s0 = 0 then (J.WP d 108 22 [J.I (J.w32 (-x0)), J.I x1, J.R x2, J.U, J.U, J.I x5, J.I s0] [] h Q) else (J.WP d 108 22 [J.I x0, J.I x1, J.R x2, J.U, J.U, J.I x5, J.I s0] [] h Q) := by
  refine (J.r_istore i108_12 (Nat.le_of_ble_eq_true rfl) rfl).trans ?_
  refine (J.r_iload i108_14 rfl).trans ?_
  refine (J.r_ifne i108_16).trans (J.ite2 ?_ ?_)
  · refine (J.r_iload i108_19 rfl).trans ?_
    refine (J.r_ineg i108_20).trans ?_
    refine (J.r_istore i108_21 (Nat.le_of_ble_eq_true rfl) rfl).trans ?_
    exact Iff.rfl
  · exact Iff.rfl
theorem b108_22 (d : Nat) (h : J.H) (Q : J.O → J.H → Prop) (x0 x1 x2 x5 x6 : Int) (v3 v4 : J.V) : J.WP d 108 22 [J.I x0, J.I x1, J.R x2, v3, v4, J.I x5, J.I x6] [] h Q ↔ if x0 ≤ (-100) then ((J.nz 100) ∧ ((J.isA (J.cl h (J.gv h (-1) 9)) 3 = true ∧ J.rg (J.w32 ((J.w32 ((J.w32 (Int.tdiv x0 100)) * 100)) - x0)) (J.ln h (J.gv h (-1) 9))) ∧ ((((J.cl h x2 = 203 ∧ J.zo (J.gv h (J.gv h (-1) 9) (J.w32 ((J.w32 ((J.w32 (Int.tdiv x0 100)) * 100)) - x0)))) ∨ (J.cl h x2 = 204 ∧ J.br (J.gv h (J.gv h (-1) 9) (J.w32 ((J.w32 ((J.w32 (Int.tdiv x0 100)) * 100)) - x0))))) ∧ J.rg (J.w32 (x5 + (-1))) (J.ln h x2)) ∧ ((J.isA (J.cl h (J.gv (J.sv h x2 (J.w32 (x5 + (-1))) (J.gv h (J.gv h (-1) 9) (J.w32 ((J.w32 ((J.w32 (Int.tdiv x0 100)) * 100)) - x0)))) (-1) 10)) 3 = true ∧ J.rg (J.w32 ((J.w32 ((J.w32 (Int.tdiv x0 100)) * 100)) - x0)) (J.ln h (J.gv (J.sv h x2 (J.w32 (x5 + (-1))) (J.gv h (J.gv h (-1) 9) (J.w32 ((J.w32 ((J.w32 (Int.tdiv x0 100)) * 100)) - x0)))) (-1) 10))) ∧ ((((J.cl h x2 = 203 ∧ J.zo (J.gv (J.sv h x2 (J.w32 (x5 + (-1))) (J.gv h (J.gv h (-1) 9) (J.w32 ((J.w32 ((J.w32 (Int.tdiv x0 100)) * 100)) - x0)))) (J.gv (J.sv h x2 (J.w32 (x5 + (-1))) (J.gv h (J.gv h (-1) 9) (J.w32 ((J.w32 ((J.w32 (Int.tdiv x0 100)) * 100)) - x0)))) (-1) 10) (J.w32 ((J.w32 ((J.w32 (Int.tdiv x0 100)) * 100)) - x0)))) ∨ (J.cl h x2 = 204 ∧ J.br (J.gv (J.sv h x2 (J.w32 (x5 + (-1))) (J.gv h (J.gv h (-1) 9) (J.w32 ((J.w32 ((J.w32 (Int.tdiv x0 100)) * 100)) - x0)))) (J.gv (J.sv h x2 (J.w32 (x5 + (-1))) (J.gv h (J.gv h (-1) 9) (J.w32 ((J.w32 ((J.w32 (Int.tdiv x0 100)) * 100)) - x0)))) (-1) 10) (J.w32 ((J.w32 ((J.w32 (Int.tdiv x0 100)) * 100)) - x0))))) ∧ J.rg (J.w32 ((J.w32 (x5 + (-1))) + (-1))) (J.ln h x2)) ∧ (J.WP d 108 22 [J.I (J.w32 (Int.tdiv x0 100)), J.I x1, J.R x2, J.I (J.w32 (Int.tdiv x0 100)), J.I (J.w32 ((J.w32 ((J.w32 (Int.tdiv x0 100)) * 100)) - x0)), J.I (J.w32 ((J.w32 (x5 + (-1))) + (-1))), J.I x6] [] (J.sv (J.sv h x2 (J.w32 (x5 + (-1))) (J.gv h (J.gv h (-1) 9) (J.w32 ((J.w32 ((J.w32 (Int.tdiv x0 100)) * 100)) - x0)))) x2 (J.w32 ((J.w32 (x5 + (-1))) + (-1))) (J.gv (J.sv h x2 (J.w32 (x5 + (-1))) (J.gv h (J.gv h (-1) 9) (J.w32 ((J.w32 ((J.w32 (Int.tdiv x0 100)) * 100)) - x0)))) (J.gv (J.sv h x2 (J.w32 (x5 + (-1))) (J.gv h (J.gv h (-1) 9) (J.w32 ((J.w32 ((J.w32 (Int.tdiv x0 100)) * 100)) - x0)))) (-1) 10) (J.w32 ((J.w32 ((J.w32 (Int.tdiv x0 100)) * 100)) - x0)))) Q)))))) else ((J.isA (J.cl h (J.gv h (-1) 9)) 3 = true ∧ J.rg (J.w32 (-x0)) (J.ln h (J.gv h (-1) 9))) ∧ ((((J.cl h x2 = 203 ∧ J.zo (J.gv h (J.gv h (-1) 9) (J.w32 (-x0)))) ∨ (J.cl h x2 = 204 ∧ J.br (J.gv h (J.gv h (-1) 9) (J.w32 (-x0))))) ∧ J.rg (J.w32 (x5 + (-1))) (J.ln h x2)) ∧ (if x0 < (-9) then ((J.isA (J.cl h (J.gv (J.sv h x2 (J.w32 (x5 + (-1))) (J.gv h (J.gv h (-1) 9) (J.w32 (-x0)))) (-1) 10)) 3 = true ∧ J.rg (J.w32 (-x0)) (J.ln h (J.gv (J.sv h x2 (J.w32 (x5 + (-1))) (J.gv h (J.gv h (-1) 9) (J.w32 (-x0)))) (-1) 10))) ∧ ((((J.cl h x2 = 203 ∧ J.zo (J.gv (J.sv h x2 (J.w32 (x5 + (-1))) (J.gv h (J.gv h (-1) 9) (J.w32 (-x0)))) (J.gv (J.sv h x2 (J.w32 (x5 + (-1))) (J.gv h (J.gv h (-1) 9) (J.w32 (-x0)))) (-1) 10) (J.w32 (-x0)))) ∨ (J.cl h x2 = 204 ∧ J.br (J.gv (J.sv h x2 (J.w32 (x5 + (-1))) (J.gv h (J.gv h (-1) 9) (J.w32 (-x0)))) (J.gv (J.sv h x2 (J.w32 (x5 + (-1))) (J.gv h (J.gv h (-1) 9) (J.w32 (-x0)))) (-1) 10) (J.w32 (-x0))))) ∧ J.rg (J.w32 ((J.w32 (x5 + (-1))) + (-1))) (J.ln h x2)) ∧ (J.WP d 108 104 [J.I x0, J.I x1, J.R x2, v3, v4, J.I (J.w32 ((J.w32 (x5 + (-1))) + (-1))), J.I x6] [] (J.sv (J.sv h x2 (J.w32 (x5 + (-1))) (J.gv h (J.gv h (-1) 9) (J.w32 (-x0)))) x2 (J.w32 ((J.w32 (x5 + (-1))) + (-1))) (J.gv (J.sv h x2 (J.w32 (x5 + (-1))) (J.gv h (J.gv h (-1) 9) (J.w32 (-x0)))) (J.gv (J.sv h x2 (J.w32 (x5 + (-1))) (J.gv h (J.gv h (-1) 9) (J.w32 (-x0)))) (-1) 10) (J.w32 (-x0)))) Q))) else (J.WP d 108 104 [J.I x0, J.I x1, J.R x2, v3, v4, J.I (J.w32 (x5 + (-1))), J.I x6] [] (J.sv h x2 (J.w32 (x5 + (-1))) (J.gv h (J.gv h (-1) 9) (J.w32 (-x0)))) Q)))) := by
  refine (J.r_iload i108_22 rfl).trans ?_
  refine (J.r_iconst i108_23).trans ?_
  refine (J.r_icgt i108_25).trans (J.ite2 ?_ ?_)
  · refine (J.r_iload i108_28 rfl).trans ?_
    refine (J.r_iconst i108_29).trans ?_
    refine (J.r_idiv i108_31).trans (and_congr_right fun q0 => ?_)
    refine (J.r_istore i108_32 (Nat.le_of_ble_eq_true rfl) rfl).trans ?_
    refine (J.r_iload i108_33 rfl).trans ?_
    refine (J.r_iconst i108_34).trans ?_
    refine (J.r_imul i108_36).trans ?_
    refine (J.r_iload i108_37 rfl).trans ?_
    refine (J.r_isub i108_38).trans ?_
    refine (J.r_istore i108_39 (Nat.le_of_ble_eq_true rfl) rfl).trans ?_
    refine (J.r_iload i108_41 rfl).trans ?_
    refine (J.r_istore i108_42 (Nat.le_of_ble_eq_true rfl) rfl).trans ?_
    refine (J.r_aload i108_43 rfl).trans ?_
    refine (J.r_iinc i108_44 rfl rfl).trans ?_
    refine (J.r_iload i108_47 rfl).trans ?_
    refine (J.r_getsR i108_49).trans ?_
    refine (J.r_iload i108_52 rfl).trans ?_
    refine (J.r_baload i108_54).trans (and_congr_right fun q1 => ?_)
    refine (J.r_bastore i108_55).trans (and_congr_right fun q2 => ?_)
    refine (J.r_aload i108_56 rfl).trans ?_
    refine (J.r_iinc i108_57 rfl rfl).trans ?_
    refine (J.r_iload i108_60 rfl).trans ?_
    refine (J.r_getsR i108_62).trans ?_
    refine (J.r_iload i108_65 rfl).trans ?_
    refine (J.r_baload i108_67).trans (and_congr_right fun q3 => ?_)
    refine (J.r_bastore i108_68).trans (and_congr_right fun q4 => ?_)
    refine (J.r_goto i108_69).trans ?_
    exact Iff.rfl
  · refine (J.r_aload i108_72 rfl).trans ?_
    refine (J.r_iinc i108_73 rfl rfl).trans ?_
    refine (J.r_iload i108_76 rfl).trans ?_
    refine (J.r_getsR i108_78).trans ?_
    refine (J.r_iload i108_81 rfl).trans ?_
    refine (J.r_ineg i108_82).trans ?_
    refine (J.r_baload i108_83).trans (and_congr_right fun q0 => ?_)
    refine (J.r_bastore i108_84).trans (and_congr_right fun q1 => ?_)
    refine (J.r_iload i108_85 rfl).trans ?_
    refine (J.r_iconst i108_86).trans ?_
    refine (J.r_icge i108_88).trans (J.ite2 ?_ ?_)
    · refine (J.r_aload i108_91 rfl).trans ?_
      refine (J.r_iinc i108_92 rfl rfl).trans ?_
      refine (J.r_iload i108_95 rfl).trans ?_
      refine (J.r_getsR i108_97).trans ?_
      refine (J.r_iload i108_100 rfl).trans ?_
      refine (J.r_ineg i108_101).trans ?_
      refine (J.r_baload i108_102).trans (and_congr_right fun q2 => ?_)
      refine (J.r_bastore i108_103).trans (and_congr_right fun q3 => ?_)
      exact Iff.rfl
    · exact Iff.rfl
theorem b108_104 (d : Nat) (h : J.H) (Q : J.O → J.H → Prop) (x0 x1 x2 x5 x6 : Int) (v3 v4 : J.V) : J.WP d 108 104 [J.I x0, J.I x1, J.R x2, v3, v4, J.I x5, J.I x6] [] h Q ↔ if x6 = 0 then (J.WP d 108 118 [J.I x0, J.I x1, J.R x2, v3, v4, J.I x5, J.I x6] [] h Q) else ((((J.cl h x2 = 203 ∧ J.zo 45) ∨ (J.cl h x2 = 204 ∧ J.br 45)) ∧ J.rg (J.w32 (x5 + (-1))) (J.ln h x2)) ∧ (J.WP d 108 118 [J.I x0, J.I x1, J.R x2, v3, v4, J.I (J.w32 (x5 + (-1))), J.I x6] [] (J.sv h x2 (J.w32 (x5 + (-1))) 45) Q)) := by
  refine (J.r_iload i108_104 rfl).trans ?_
  refine (J.r_ifeq i108_106).trans (J.ite2 ?_ ?_)
  · exact Iff.rfl
  · refine (J.r_aload i108_109 rfl).trans ?_
    refine (J.r_iinc i108_110 rfl rfl).trans ?_
    refine (J.r_iload i108_113 rfl).trans ?_
    refine (J.r_iconst i108_115).trans ?_
    refine (J.r_bastore i108_117).trans (and_congr_right fun q0 => ?_)
    exact Iff.rfl
theorem b108_118 (d : Nat) (h : J.H) (Q : J.O → J.H → Prop) (x0 x1 x2 x5 x6 : Int) (v3 v4 : J.V) : J.WP d 108 118 [J.I x0, J.I x1, J.R x2, v3, v4, J.I x5, J.I x6] [] h Q ↔ Q (Sum.inl (some (J.I x5))) h := by
  refine (J.r_iload i108_118 rfl).trans ?_
  exact J.r_iret i108_120 rfl
/-! 111 java/lang/StringBuilder.toString()Ljava/lang/String; -/
theorem i111_0 : J.cd 111 0 = some (.new 18, 3, 23, 11, 213) := by decide +kernel
theorem i111_3 : J.cd 111 3 = some (.dup, 4, 3, 0, 0) := by decide +kernel
theorem i111_4 : J.cd 111 4 = some (.aload 0, 5, 0, 0, 0) := by decide +kernel
theorem i111_5 : J.cd 111 5 = some (.invokespecial 137, 8, 112, 2, 2) := by decide +kernel
theorem i111_8 : J.cd 111 8 = some (.areturn, 9, 8, 0, 0) := by decide +kernel
theorem b111_0 (d : Nat) (h : J.H) (Q : J.O → J.H → Prop) (x0 : Int) : J.WP d 111 0 [J.R x0] [] h Q ↔ (J.us h + (11 : Nat) ≤ J.UM) ∧ (J.ik (J.cl (J.nw h 23 0 (11 : Nat)) (J.nx h)) = true ∧ 0 < d ∧ J.WP (d - 1) 112 0 [J.R (J.nx h), J.R x0] [] (J.nw h 23 0 (11 : Nat)) (J.af J.WP d 111 5 8 [J.R x0] [J.R (J.nx h)] Q)) := by
  refine (J.r_new i111_0).trans (and_congr_right fun q0 => ?_)
  refine (J.r_dupR i111_3).trans ?_
  refine (J.r_aload i111_4 rfl).trans ?_
  exact J.r_spec i111_5 (by decide) ⟨by decide, Nat.le_of_ble_eq_true rfl⟩ rfl rfl (Nat.le_of_ble_eq_true rfl)
theorem b111_8 (d : Nat) (h : J.H) (Q : J.O → J.H → Prop) (x0 s0 : Int) : J.WP d 111 8 [J.R x0] [J.R s0] h Q ↔ Q (Sum.inl (some (J.R s0))) h := by
  exact J.r_aret i111_8 rfl
/-! 112 java/lang/String.<init>(Ljava/lang/StringBuilder;)V -/
theorem i112_0 : J.cd 112 0 = some (.aload 0, 1, 0, 0, 0) := by decide +kernel
theorem i112_1 : J.cd 112 1 = some (.aload 1, 2, 0, 0, 0) := by decide +kernel
theorem i112_2 : J.cd 112 2 = some (.aconst_null, 3, 2, 0, 0) := by decide +kernel
theorem i112_3 : J.cd 112 3 = some (.invokespecial 489, 6, 113, 3, 5) := by decide +kernel
theorem i112_6 : J.cd 112 6 = some (.return_, 7, 6, 0, 0) := by decide +kernel
theorem b112_0 (d : Nat) (h : J.H) (Q : J.O → J.H → Prop) (x0 x1 : Int) : J.WP d 112 0 [J.R x0, J.R x1] [] h Q ↔ J.ik (J.cl h x0) = true ∧ 0 < d ∧ J.WP (d - 1) 113 0 [J.R x0, J.R x1, J.R 0, J.U, J.U] [] h (J.af J.WP d 112 3 6 [J.R x0, J.R x1] [] Q) := by
  refine (J.r_aload i112_0 rfl).trans ?_
  refine (J.r_aload i112_1 rfl).trans ?_
  refine (J.r_null i112_2).trans ?_
  exact J.r_spec i112_3 (by decide) ⟨by decide, Nat.le_of_ble_eq_true rfl⟩ rfl rfl (Nat.le_of_ble_eq_true rfl)
theorem b112_6 (d : Nat) (h : J.H) (Q : J.O → J.H → Prop) (x0 x1 : Int) : J.WP d 112 6 [J.R x0, J.R x1] [] h Q ↔ Q (Sum.inl none) h := by
  exact J.r_ret i112_6 rfl
/-! 113 java/lang/String.<init>(Ljava/lang/AbstractStringBuilder;Ljava/lang/Void;)V -/
theorem i113_0 : J.cd 113 0 = some (.aload 0, 1, 0, 0, 0) := by decide +kernel
theorem i113_1 : J.cd 113 1 = some (.invokespecial 1, 4, 2005, 1, 0) := by decide +kernel
theorem i113_4 : J.cd 113 4 = some (.aload 1, 5, 0, 0, 0) := by decide +kernel
theorem i113_5 : J.cd 113 5 = some (.invokevirtual 552, 8, 208, 0, 0) := by decide +kernel
theorem i113_8 : J.cd 113 8 = some (.astore 3, 9, 0, 0, 0) := by decide +kernel
theorem i113_9 : J.cd 113 9 = some (.aload 1, 10, 0, 0, 0) := by decide +kernel
theorem i113_10 : J.cd 113 10 = some (.invokevirtual 549, 13, 196, 0, 0) := by decide +kernel
theorem i113_13 : J.cd 113 13 = some (.istore 4, 15, 13, 0, 0) := by decide +kernel
theorem i113_15 : J.cd 113 15 = some (.aload 1, 16, 0, 0, 0) := by decide +kernel
theorem i113_16 : J.cd 113 16 = some (.invokevirtual 1047, 19, 201, 0, 0) := by decide +kernel
theorem i113_19 : J.cd 113 19 = some (.ifCond .eq 22, 22, 41, 0, 0) := by decide +kernel
theorem i113_22 : J.cd 113 22 = some (.aload 0, 23, 0, 0, 0) := by decide +kernel
theorem i113_23 : J.cd 113 23 = some (.iconst 0, 24, 23, 0, 0) := by decide +kernel
theorem i113_24 : J.cd 113 24 = some (.putfield 15, 27, 171, 23, 4) := by decide +kernel
theorem i113_27 : J.cd 113 27 = some (.aload 0, 28, 0, 0, 0) := by decide +kernel
theorem i113_28 : J.cd 113 28 = some (.aload 3, 29, 0, 0, 0) := by decide +kernel
theorem i113_29 : J.cd 113 29 = some (.iconst 0, 30, 29, 0, 0) := by decide +kernel
theorem i113_30 : J.cd 113 30 = some (.iload 4, 32, 30, 0, 0) := by decide +kernel
theorem i113_32 : J.cd 113 32 = some (.invokestatic 54, 35, 117, 3, 3) := by decide +kernel
theorem i113_35 : J.cd 113 35 = some (.putfield 9, 38, 170, 23, 2) := by decide +kernel
theorem i113_38 : J.cd 113 38 = some (.goto 59, 41, 97, 0, 0) := by decide +kernel
theorem i113_41 : J.cd 113 41 = some (.getstatic 38, 44, 0, 0, 3) := by decide +kernel
theorem i113_44 : J.cd 113 44 = some (.ifCond .eq 35, 47, 79, 0, 0) := by decide +kernel
theorem i113_47 : J.cd 113 47 = some (.aload 1, 48, 0, 0, 0) := by decide +kernel
theorem i113_48 : J.cd 113 48 = some (.getfield 1048, 51, 9, 86, 3) := by decide +kernel
theorem i113_51 : J.cd 113 51 = some (.ifCond .eq 28, 54, 79, 0, 0) := by decide +kernel
theorem i113_54 : J.cd 113 54 = some (.aload 0, 55, 0, 0, 0) := by decide +kernel
theorem i113_55 : J.cd 113 55 = some (.aload 3, 56, 0, 0, 0) := by decide +kernel
theorem i113_56 : J.cd 113 56 = some (.iconst 0, 57, 56, 0, 0) := by decide +kernel
theorem i113_57 : J.cd 113 57 = some (.iload 4, 59, 57, 0, 0) := by decide +kernel
theorem i113_59 : J.cd 113 59 = some (.invokestatic 1051, 62, 124, 3, 6) := by decide +kernel
theorem i113_62 : J.cd 113 62 = some (.putfield 9, 65, 170, 23, 2) := by decide +kernel
theorem i113_65 : J.cd 113 65 = some (.aload 0, 66, 0, 0, 0) := by decide +kernel
theorem i113_66 : J.cd 113 66 = some (.aload 0, 67, 0, 0, 0) := by decide +kernel
theorem i113_67 : J.cd 113 67 = some (.getfield 9, 70, 170, 23, 2) := by decide +kernel
theorem i113_70 : J.cd 113 70 = some (.iload 4, 72, 70, 0, 0) := by decide +kernel
theorem i113_72 : J.cd 113 72 = some (.invokestatic 47, 75, 127, 2, 2) := by decide +kernel
theorem i113_75 : J.cd 113 75 = some (.putfield 15, 78, 171, 23, 4) := by decide +kernel
theorem i113_78 : J.cd 113 78 = some (.return_, 79, 78, 0, 0) := by decide +kernel
theorem i113_79 : J.cd 113 79 = some (.aload 0, 80, 0, 0, 0) := by decide +kernel
theorem i113_80 : J.cd 113 80 = some (.iconst 1, 81, 80, 0, 0) := by decide +kernel
theorem i113_81 : J.cd 113 81 = some (.putfield 15, 84, 171, 23, 4) := by decide +kernel
theorem i113_84 : J.cd 113 84 = some (.aload 0, 85, 0, 0, 0) := by decide +kernel
theorem i113_85 : J.cd 113 85 = some (.aload 3, 86, 0, 0, 0) := by decide +kernel
theorem i113_86 : J.cd 113 86 = some (.iconst 0, 87, 86, 0, 0) := by decide +kernel
theorem i113_87 : J.cd 113 87 = some (.iload 4, 89, 87, 0, 0) := by decide +kernel
theorem i113_89 : J.cd 113 89 = some (.iconst 1, 90, 89, 0, 0) := by decide +kernel
theorem i113_90 : J.cd 113 90 = some (.ishl, 91, 90, 0, 0) := by decide +kernel
theorem i113_91 : J.cd 113 91 = some (.invokestatic 54, 94, 117, 3, 3) := by decide +kernel
theorem i113_94 : J.cd 113 94 = some (.putfield 9, 97, 170, 23, 2) := by decide +kernel
theorem i113_97 : J.cd 113 97 = some (.return_, 98, 97, 0, 0) := by decide +kernel
theorem b113_0 (d : Nat) (h : J.H) (Q : J.O → J.H → Prop) (x0 x1 x2 : Int) : J.WP d 113 0 [J.R x0, J.R x1, J.R x2, J.U, J.U] [] h Q ↔ (J.ik (J.cl h x0) = true) ∧ (J.cl h x1 = 4 ∧ 0 < d ∧ J.WP (d - 1) 114 0 [J.R x1] [] h (J.af J.WP d 113 5 8 [J.R x0, J.R x1, J.R x2, J.U, J.U] [] Q)) := by
  refine (J.r_aload i113_0 rfl).trans ?_
  refine (J.r_obj i113_1).trans (and_congr_right fun q0 => ?_)
  refine (J.r_aload i113_4 rfl).trans ?_
  exact J.r_virt1 (k2 := 114) (m := 1) 4 i113_5 rfl (by decide +kernel) (by decide) rfl (Nat.le_of_ble_eq_true rfl)
theorem b113_8 (d : Nat) (h : J.H) (Q : J.O → J.H → Prop) (x0 x1 x2 s0 : Int) : J.WP d 113 8 [J.R x0, J.R x1, J.R x2, J.U, J.U] [J.R s0] h Q ↔ J.cl h x1 = 4 ∧ 0 < d ∧ J.WP (d - 1) 115 0 [J.R x1] [] h (J.af J.WP d 113 10 13 [J.R x0, J.R x1, J.R x2, J.R s0, J.U] [] Q) := by
  refine (J.r_astore i113_8 (Nat.le_of_ble_eq_true rfl) rfl).trans ?_
  refine (J.r_aload i113_9 rfl).trans ?_
  exact J.r_virt1 (k2 := 115) (m := 1) 4 i113_10 rfl (by decide +kernel) (by decide) rfl (Nat.le_of_ble_eq_true rfl)
theorem b113_13 (d : Nat) (h : J.H) (Q : J.O → J.H → Prop) (x0 x1 x2 x3 s0 : Int) : J.WP d 113 13 [J.R x0, J.R x1, J.R x2, J.R x3, J.U] [J.I s0] h Q ↔ J.cl h x1 = 4 ∧ 0 < d ∧ J.WP (d - 1) 81 0 [J.R x1] [] h (J.af J.WP d 113 16 19 [J.R x0, J.R x1, J.R x2, J.R x3, J.I s0] [] Q) := by
  refine (J.r_istore i113_13 (Nat.le_of_ble_eq_true rfl) rfl).trans ?_
  refine (J.r_aload i113_15 rfl).trans ?_
  exact J.r_virt1 (k2 := 81) (m := 1) 4 i113_16 rfl (by decide +kernel) (by decide) rfl (Nat.le_of_ble_eq_true rfl)
theorem b113_19 (d : Nat) (h : J.H) (Q : J.O → J.H → Prop) (x0 x1 x2 x3 x4 s0 : Int) : J.WP d 113 19 [J.R x0, J.R x1, J.R x2, J.R x3, J.I x4] [J.I s0] h Q ↔ if s0 = 0 then (if (J.gv h (-1) 0) = 0 then (J.WP d 113 79 [J.R x0, J.R x1, J.R x2, J.R x3, J.I x4] [] h Q) else ((J.sb (J.cl h x1) 86 = true) ∧ (if (J.gv h x1 9) = 0 then (J.WP d 113 79 [J.R x0, J.R x1, J.R x2, J.R x3, J.I x4] [] h Q) else (0 < d ∧ J.WP (d - 1) 124 0 [J.R x3, J.I 0, J.I x4, J.U, J.U, J.U] [] h (J.af J.WP d 113 59 62 [J.R x0, J.R x1, J.R x2, J.R x3, J.I x4] [J.R x0] Q))))) else ((J.sb (J.cl h x0) 23 = true ∧ J.cl h x0 < 300 ∧ J.br 0) ∧ (0 < d ∧ J.WP (d - 1) 117 0 [J.R x3, J.I 0, J.I x4] [] (J.sv h x0 171 0) (J.af J.WP d 113 32 35 [J.R x0, J.R x1, J.R x2, J.R x3, J.I x4] [J.R x0] Q))) := by
  refine (J.r_ifeq i113_19).trans (J.ite2 ?_ ?_)
  · refine (J.r_getsZ i113_41).trans ?_
    refine (J.r_ifeq i113_44).trans (J.ite2 ?_ ?_)
    · exact Iff.rfl
    · refine (J.r_aload i113_47 rfl).trans ?_
      refine (J.r_getZ i113_48).trans (and_congr_right fun q0 => ?_)
      refine (J.r_ifeq i113_51).trans (J.ite2 ?_ ?_)
      · exact Iff.rfl
      · refine (J.r_aload i113_54 rfl).trans ?_
        refine (J.r_aload i113_55 rfl).trans ?_
        refine (J.r_iconst i113_56).trans ?_
        refine (J.r_iload i113_57 rfl).trans ?_
        exact J.r_stat i113_59 (by decide) (Nat.le_of_ble_eq_true rfl) rfl rfl (Nat.le_of_ble_eq_true rfl)
  · refine (J.r_aload i113_22 rfl).trans ?_
    refine (J.r_iconst i113_23).trans ?_
    refine (J.r_putB i113_24).trans (and_congr_right fun q0 => ?_)
    refine (J.r_aload i113_27 rfl).trans ?_
    refine (J.r_aload i113_28 rfl).trans ?_
    refine (J.r_iconst i113_29).trans ?_
    refine (J.r_iload i113_30 rfl).trans ?_
    exact J.r_stat i113_32 (by decide) (Nat.le_of_ble_eq_true rfl) rfl rfl (Nat.le_of_ble_eq_true rfl)
theorem b113_35 (d : Nat) (h : J.H) (Q : J.O → J.H → Prop) (x0 x1 x2 x3 x4 s0 s1 : Int) : J.WP d 113 35 [J.R x0, J.R x1, J.R x2, J.R x3, J.I x4] [J.R s1, J.R s0] h Q ↔ (J.sb (J.cl h s0) 23 = true ∧ J.cl h s0 < 300) ∧ (J.WP d 113 97 [J.R x0, J.R x1, J.R x2, J.R x3, J.I x4] [] (J.sv h s0 170 s1) Q) := by
  refine (J.r_putR i113_35).trans (and_congr_right fun q0 => ?_)
  refine (J.r_goto i113_38).trans ?_
  exact Iff.rfl
theorem b113_62 (d : Nat) (h : J.H) (Q : J.O → J.H → Prop) (x0 x1 x2 x3 x4 s0 s1 : Int) : J.WP d 113 62 [J.R x0, J.R x1, J.R x2, J.R x3, J.I x4] [J.R s1, J.R s0] h Q ↔ (J.sb (J.cl h s0) 23 = true ∧ J.cl h s0 < 300) ∧ ((J.sb (J.cl h x0) 23 = true) ∧ (0 < d ∧ J.WP (d - 1) 127 0 [J.R (J.gv (J.sv h s0 170 s1) x0 170), J.I x4] [] (J.sv h s0 170 s1) (J.af J.WP d 113 72 75 [J.R x0, J.R x1, J.R x2, J.R x3, J.I x4] [J.R x0] Q))) := by
  refine (J.r_putR i113_62).trans (and_congr_right fun q0 => ?_)
  refine (J.r_aload i113_65 rfl).trans ?_
  refine (J.r_aload i113_66 rfl).trans ?_
  refine (J.r_getR i113_67).trans (and_congr_right fun q1 => ?_)
  refine (J.r_iload i113_70 rfl).trans ?_
  exact J.r_stat i113_72 (by decide) (Nat.le_of_ble_eq_true rfl) rfl rfl (Nat.le_of_ble_eq_true rfl)
theorem b113_75 (d : Nat) (h : J.H) (Q : J.O → J.H → Prop) (x0 x1 x2 x3 x4 s0 s1 : Int) : J.WP d 113 75 [J.R x0, J.R x1, J.R x2, J.R x3, J.I x4] [J.I s1, J.R s0] h Q ↔ (J.sb (J.cl h s0) 23 = true ∧ J.cl h s0 < 300 ∧ J.br s1) ∧ (Q (Sum.inl none) (J.sv h s0 171 s1)) := by
  refine (J.r_putB i113_75).trans (and_congr_right fun q0 => ?_)
  exact J.r_ret i113_78 rfl
theorem b113_79 (d : Nat) (h : J.H) (Q : J.O → J.H → Prop) (x0 x1 x2 x3 x4 : Int) : J.WP d 113 79 [J.R x0, J.R x1, J.R x2, J.R x3, J.I x4] [] h Q ↔ (J.sb (J.cl h x0) 23 = true ∧ J.cl h x0 < 300 ∧ J.br 1) ∧ (0 < d ∧ J.WP (d - 1) 117 0 [J.R x3, J.I 0, J.I (J.shl32 x4 1)] [] (J.sv h x0 171 1) (J.af J.WP d 113 91 94 [J.R x0, J.R x1, J.R x2, J.R x3, J.I x4] [J.R x0] Q)) := by
  refine (J.r_aload i113_79 rfl).trans ?_
  refine (J.r_iconst i113_80).trans ?_
  refine (J.r_putB i113_81).trans (and_congr_right fun q0 => ?_)
  refine (J.r_aload i113_84 rfl).trans ?_
  refine (J.r_aload i113_85 rfl).trans ?_
  refine (J.r_iconst i113_86).trans ?_
  refine (J.r_iload i113_87 rfl).trans ?_
  refine (J.r_iconst i113_89).trans ?_
  refine (J.r_ishl i113_90).trans ?_
  exact J.r_stat i113_91 (by decide) (Nat.le_of_ble_eq_true rfl) rfl rfl (Nat.le_of_ble_eq_true rfl)
theorem b113_94 (d : Nat) (h : J.H) (Q : J.O → J.H → Prop) (x0 x1 x2 x3 x4 s0 s1 : Int) : J.WP d 113 94 [J.R x0, J.R x1, J.R x2, J.R x3, J.I x4] [J.R s1, J.R s0] h Q ↔ (J.sb (J.cl h s0) 23 = true ∧ J.cl h s0 < 300) ∧ (J.WP d 113 97 [J.R x0, J.R x1, J.R x2, J.R x3, J.I x4] [] (J.sv h s0 170 s1) Q) := by
  refine (J.r_putR i113_94).trans (and_congr_right fun q0 => ?_)
  exact Iff.rfl
theorem b113_97 (d : Nat) (h : J.H) (Q : J.O → J.H → Prop) (x0 x1 x2 x3 x4 : Int) : J.WP d 113 97 [J.R x0, J.R x1, J.R x2, J.R x3, J.I x4] [] h Q ↔ Q (Sum.inl none) h := by
  exact J.r_ret i113_97 rfl
/-! 114 java/lang/AbstractStringBuilder.getValue()[B -/
theorem i114_0 : J.cd 114 0 = some (.aload 0, 1, 0, 0, 0) := by decide +kernel
theorem i114_1 : J.cd 114 1 = some (.getfield 15, 4, 7, 86, 2) := by decide +kernel
theorem i114_4 : J.cd 114 4 = some (.areturn, 5, 4, 0, 0) := by decide +kernel
theorem b114_0 (d : Nat) (h : J.H) (Q : J.O → J.H → Prop) (x0 : Int) : J.WP d 114 0 [J.R x0] [] h Q ↔ (J.sb (J.cl h x0) 86 = true) ∧ (Q (Sum.inl (some (J.R (J.gv h x0 7)))) h) := by
  refine (J.r_aload i114_0 rfl).trans ?_
  refine (J.r_getR i114_1).trans (and_congr_right fun q0 => ?_)
  exact J.r_aret i114_4 rfl
/-! 115 java/lang/StringBuilder.length()I -/
theorem i115_0 : J.cd 115 0 = some (.aload 0, 1, 0, 0, 0) := by decide +kernel
theorem i115_1 : J.cd 115 1 = some (.invokespecial 343, 4, 116, 1, 1) := by decide +kernel
theorem i115_4 : J.cd 115 4 = some (.ireturn, 5, 0, 0, 0) := by decide +kernel
theorem b115_0 (d : Nat) (h : J.H) (Q : J.O → J.H → Prop) (x0 : Int) : J.WP d 115 0 [J.R x0] [] h Q ↔ J.ik (J.cl h x0) = true ∧ 0 < d ∧ J.WP (d - 1) 116 0 [J.R x0] [] h (J.af J.WP d 115 1 4 [J.R x0] [] Q) := by
  refine (J.r_aload i115_0 rfl).trans ?_
  exact J.r_spec i115_1 (by decide) ⟨by decide, Nat.le_of_ble_eq_true rfl⟩ rfl rfl (Nat.le_of_ble_eq_true rfl)
theorem b115_4 (d : Nat) (h : J.H) (Q : J.O → J.H → Prop) (x0 s0 : Int) : J.WP d 115 4 [J.R x0] [J.I s0] h Q ↔ Q (Sum.inl (some (J.I s0))) h := by
  exact J.r_iret i115_4 rfl
/-! 116 java/lang/AbstractStringBuilder.length()I -/
theorem i116_0 : J.cd 116 0 = some (.aload 0, 1, 0, 0, 0) := by decide +kernel
theorem i116_1 : J.cd 116 1 = some (.getfield 79, 4, 10, 86, 0) := by decide +kernel
theorem i116_4 : J.cd 116 4 = some (.ireturn, 5, 0, 0, 0) := by decide +kernel
theorem b116_0 (d : Nat) (h : J.H) (Q : J.O → J.H → Prop) (x0 : Int) : J.WP d 116 0 [J.R x0] [] h Q ↔ (J.sb (J.cl h x0) 86 = true) ∧ (Q (Sum.inl (some (J.I (J.gv h x0 10)))) h) := by
  refine (J.r_aload i116_0 rfl).trans ?_
  refine (J.r_getI i116_1).trans (and_congr_right fun q0 => ?_)
  exact J.r_iret i116_4 rfl
/-! 117 java/util/Arrays.copyOfRange([BII)[B -/
theorem i117_0 : J.cd 117 0 = some (.iload 1, 1, 0, 0, 0) := by decide +kernel
theorem i117_1 : J.cd 117 1 = some (.ifCond .ne 9, 4, 10, 0, 0) := by decide +kernel
theorem i117_4 : J.cd 117 4 = some (.iload 2, 5, 0, 0, 0) := by decide +kernel
theorem i117_5 : J.cd 117 5 = some (.aload 0, 6, 0, 0, 0) := by decide +kernel
theorem i117_6 : J.cd 117 6 = some (.arraylength, 7, 6, 0, 0) := by decide +kernel
theorem i117_7 : J.cd 117 7 = some (.if_icmp .eq 10, 10, 17, 0, 0) := by decide +kernel
theorem i117_10 : J.cd 117 10 = some (.aload 0, 11, 0, 0, 0) := by decide +kernel
theorem i117_11 : J.cd 117 11 = some (.iload 1, 12, 0, 0, 0) := by decide +kernel
theorem i117_12 : J.cd 117 12 = some (.iload 2, 13, 0, 0, 0) := by decide +kernel
theorem i117_13 : J.cd 117 13 = some (.invokestatic 339, 16, 118, 3, 5) := by decide +kernel
theorem i117_16 : J.cd 117 16 = some (.areturn, 17, 16, 0, 0) := by decide +kernel
theorem i117_17 : J.cd 117 17 = some (.aload 0, 18, 0, 0, 0) := by decide +kernel
theorem i117_18 : J.cd 117 18 = some (.invokevirtual 310, 21, 9004, 0, 0) := by decide +kernel
theorem i117_21 : J.cd 117 21 = some (.checkcast 311, 24, 204, 0, 0) := by decide +kernel
theorem i117_24 : J.cd 117 24 = some (.areturn, 25, 24, 0, 0) := by decide +kernel
theorem b117_0 (d : Nat) (h : J.H) (Q : J.O → J.H → Prop) (x0 x1 x2 : Int) : J.WP d 117 0 [J.R x0, J.I x1, J.I x2] [] h Q ↔ if x1 = 0 then ((J.ia (J.cl h x0) = true) ∧ (if x2 = (J.ln h x0) then ((J.cl h x0 = 204 ∧ J.us h + 7 + J.ln h x0 ≤ J.UM) ∧ ((J.no (J.nx h) ∨ J.sb (J.cl (J.nw h 204 (J.ln h x0) (7 + J.ln h x0)) (J.nx h)) 204 = true) ∧ (Q (Sum.inl (some (J.R (J.nx h)))) (J.cpy (J.nw h 204 (J.ln h x0) (7 + J.ln h x0)) x0 0 (J.nx h) 0 (J.ln h x0))))) else (J.WP d 117 10 [J.R x0, J.I x1, J.I x2] [] h Q))) else (J.WP d 117 10 [J.R x0, J.I x1, J.I x2] [] h Q) := by
  refine (J.r_iload i117_0 rfl).trans ?_
  refine (J.r_ifne i117_1).trans (J.ite2 ?_ ?_)
  · refine (J.r_iload i117_4 rfl).trans ?_
    refine (J.r_aload i117_5 rfl).trans ?_
    refine (J.r_alen i117_6).trans (and_congr_right fun q0 => ?_)
    refine (J.r_iceq i117_7).trans (J.ite2 ?_ ?_)
    · refine (J.r_aload i117_17 rfl).trans ?_
      refine (J.r_cloneB i117_18).trans (and_congr_right fun q1 => ?_)
      refine (J.r_cast i117_21).trans (and_congr_right fun q2 => ?_)
      exact J.r_aret i117_24 rfl
    · exact Iff.rfl
  · exact Iff.rfl
theorem b117_10 (d : Nat) (h : J.H) (Q : J.O → J.H → Prop) (x0 x1 x2 : Int) : J.WP d 117 10 [J.R x0, J.I x1, J.I x2] [] h Q ↔ 0 < d ∧ J.WP (d - 1) 118 0 [J.R x0, J.I x1, J.I x2, J.U, J.U] [] h (J.af J.WP d 117 13 16 [J.R x0, J.I x1, J.I x2] [] Q) := by
  refine (J.r_aload i117_10 rfl).trans ?_
  refine (J.r_iload i117_11 rfl).trans ?_
  refine (J.r_iload i117_12 rfl).trans ?_
  exact J.r_stat i117_13 (by decide) (Nat.le_of_ble_eq_true rfl) rfl rfl (Nat.le_of_ble_eq_true rfl)
theorem b117_16 (d : Nat) (h : J.H) (Q : J.O → J.H → Prop) (x0 x1 x2 s0 : Int) : J.WP d 117 16 [J.R x0, J.I x1, J.I x2] [J.R s0] h Q ↔ Q (Sum.inl (some (J.R s0))) h := by
  exact J.r_aret i117_16 rfl
/-! 118 java/util/Arrays.copyOfRangeByte([BII)[B -/
theorem i118_0 : J.cd 118 0 = some (.iload 1, 1, 0, 0, 0) := by decide +kernel
theorem i118_1 : J.cd 118 1 = some (.iload 2, 2, 0, 0, 0) := by decide +kernel
theorem i118_2 : J.cd 118 2 = some (.invokestatic 343, 5, 119, 2, 2) := by decide +kernel
theorem i118_5 : J.cd 118 5 = some (.iload 2, 6, 0, 0, 0) := by decide +kernel
theorem i118_6 : J.cd 118 6 = some (.iload 1, 7, 0, 0, 0) := by decide +kernel
theorem i118_7 : J.cd 118 7 = some (.isub, 8, 7, 0, 0) := by decide +kernel
theorem i118_8 : J.cd 118 8 = some (.istore 3, 9, 0, 0, 0) := by decide +kernel
theorem i118_9 : J.cd 118 9 = some (.iload 3, 10, 0, 0, 0) := by decide +kernel
theorem i118_10 : J.cd 118 10 = some (.newarray .byte, 12, 10, 0, 0) := by decide +kernel
theorem i118_12 : J.cd 118 12 = some (.astore 4, 14, 12, 0, 0) := by decide +kernel
theorem i118_14 : J.cd 118 14 = some (.aload 0, 15, 0, 0, 0) := by decide +kernel
theorem i118_15 : J.cd 118 15 = some (.iload 1, 16, 0, 0, 0) := by decide +kernel
theorem i118_16 : J.cd 118 16 = some (.aload 4, 18, 16, 0, 0) := by decide +kernel
theorem i118_18 : J.cd 118 18 = some (.iconst 0, 19, 18, 0, 0) := by decide +kernel
theorem i118_19 : J.cd 118 19 = some (.aload 0, 20, 0, 0, 0) := by decide +kernel
theorem i118_20 : J.cd 118 20 = some (.arraylength, 21, 20, 0, 0) := by decide +kernel
theorem i118_21 : J.cd 118 21 = some (.iload 1, 22, 0, 0, 0) := by decide +kernel
theorem i118_22 : J.cd 118 22 = some (.isub, 23, 22, 0, 0) := by decide +kernel
theorem i118_23 : J.cd 118 23 = some (.iload 3, 24, 0, 0, 0) := by decide +kernel
theorem i118_24 : J.cd 118 24 = some (.invokestatic 304, 27, 26, 2, 2) := by decide +kernel
theorem i118_27 : J.cd 118 27 = some (.invokestatic 150, 30, 2000, 5, 0) := by decide +kernel
theorem i118_30 : J.cd 118 30 = some (.aload 4, 32, 30, 0, 0) := by decide +kernel
theorem i118_32 : J.cd 118 32 = some (.areturn, 33, 32, 0, 0) := by decide +kernel
theorem b118_0 (d : Nat) (h : J.H) (Q : J.O → J.H → Prop) (x0 x1 x2 : Int) : J.WP d 118 0 [J.R x0, J.I x1, J.I x2, J.U, J.U] [] h Q ↔ 0 < d ∧ J.WP (d - 1) 119 0 [J.I x1, J.I x2] [] h (J.af J.WP d 118 2 5 [J.R x0, J.I x1, J.I x2, J.U, J.U] [] Q) := by
  refine (J.r_iload i118_0 rfl).trans ?_
  refine (J.r_iload i118_1 rfl).trans ?_
  exact J.r_stat i118_2 (by decide) (Nat.le_of_ble_eq_true rfl) rfl rfl (Nat.le_of_ble_eq_true rfl)
theorem b118_5 (d : Nat) (h : J.H) (Q : J.O → J.H → Prop) (x0 x1 x2 : Int) : J.WP d 118 5 [J.R x0, J.I x1, J.I x2, J.U, J.U] [] h Q ↔ (0 ≤ (J.w32 (x2 - x1)) ∧ J.us h + 7 + (J.w32 (x2 - x1)) ≤ J.UM) ∧ ((J.ia (J.cl (J.nw h 204 (J.w32 (x2 - x1)) (7 + (J.w32 (x2 - x1)))) x0) = true) ∧ (0 < d ∧ J.WP (d - 1) 26 0 [J.I (J.w32 ((J.ln (J.nw h 204 (J.w32 (x2 - x1)) (7 + (J.w32 (x2 - x1)))) x0) - x1)), J.I (J.w32 (x2 - x1))] [] (J.nw h 204 (J.w32 (x2 - x1)) (7 + (J.w32 (x2 - x1)))) (J.af J.WP d 118 24 27 [J.R x0, J.I x1, J.I x2, J.I (J.w32 (x2 - x1)), J.R (J.nx h)] [J.I 0, J.R (J.nx h), J.I x1, J.R x0] Q))) := by
  refine (J.r_iload i118_5 rfl).trans ?_
  refine (J.r_iload i118_6 rfl).trans ?_
  refine (J.r_isub i118_7).trans ?_
  refine (J.r_istore i118_8 (Nat.le_of_ble_eq_true rfl) rfl).trans ?_
  refine (J.r_iload i118_9 rfl).trans ?_
  refine (J.r_newarray i118_10).trans (and_congr_right fun q0 => ?_)
  refine (J.r_astore i118_12 (Nat.le_of_ble_eq_true rfl) rfl).trans ?_
  refine (J.r_aload i118_14 rfl).trans ?_
  refine (J.r_iload i118_15 rfl).trans ?_
  refine (J.r_aload i118_16 rfl).trans ?_
  refine (J.r_iconst i118_18).trans ?_
  refine (J.r_aload i118_19 rfl).trans ?_
  refine (J.r_alen i118_20).trans (and_congr_right fun q1 => ?_)
  refine (J.r_iload i118_21 rfl).trans ?_
  refine (J.r_isub i118_22).trans ?_
  refine (J.r_iload i118_23 rfl).trans ?_
  exact J.r_stat i118_24 (by decide) (Nat.le_of_ble_eq_true rfl) rfl rfl (Nat.le_of_ble_eq_true rfl)
theorem b118_27 (d : Nat) (h : J.H) (Q : J.O → J.H → Prop) (x0 x1 x2 x3 x4 s0 s1 s2 s3 s4 : Int) : J.WP d 118 27 [J.R x0, J.I x1, J.I x2, J.I x3, J.R x4] [J.I s4, J.I s3, J.R s2, J.I s1, J.R s0] h Q ↔ ((0 : Int) ≤ s4 ∧ (0 : Int) ≤ s1 ∧ (0 : Int) ≤ s3 ∧ s1 + s4 ≤ J.ln h s0 ∧ s3 + s4 ≤ J.ln h s2 ∧ J.cl h s2 < 300 ∧ ((J.isA (J.cl h s0) 3 = true ∧ J.cl h s2 = 204 ∧ J.cl h s0 ≠ 203) ∨ (J.isA (J.cl h s0) 2 = true ∧ J.cl h s2 = 214 ∧ J.vld h s0 s1 s4 = true))) ∧ (Q (Sum.inl (some (J.R x4))) (J.cpy h s0 s1 s2 s3 s4)) := by
  refine (J.r_acopy i118_27).trans (and_congr_right fun q0 => ?_)
  refine (J.r_aload i118_30 rfl).trans ?_
  exact J.r_aret i118_32 rfl
/-! 119 java/util/Arrays.checkLength(II)V -/
theorem i119_0 : J.cd 119 0 = some (.iload 1, 1, 0, 0, 0) := by decide +kernel
theorem i119_1 : J.cd 119 1 = some (.iload 0, 2, 0, 0, 0) := by decide +kernel
theorem i119_2 : J.cd 119 2 = some (.if_icmp .ge 35, 5, 37, 0, 0) := by decide +kernel
theorem i119_5 : J.cd 119 5 = some (.new 43, 8, 21, 13, 0) := by decide +kernel
theorem i119_8 : J.cd 119 8 = some (.dup, 9, 8, 0, 0) := by decide +kernel
theorem i119_9 : J.cd 119 9 = some (.new 45, 12, 4, 11, 0) := by decide +kernel
theorem i119_12 : J.cd 119 12 = some (.dup, 13, 12, 0, 0) := by decide +kernel
theorem i119_13 : J.cd 119 13 = some (.invokespecial 47, 16, 4, 1, 1) := by decide +kernel
theorem i119_16 : J.cd 119 16 = some (.iload 0, 17, 0, 0, 0) := by decide +kernel
theorem i119_17 : J.cd 119 17 = some (.invokevirtual 54, 20, 138, 1, 0) := by decide +kernel
theorem i119_20 : J.cd 119 20 = some (.ldc 337, 23, 1060, 1, 0) := by decide +kernel
theorem i119_23 : J.cd 119 23 = some (.invokevirtual 50, 26, 188, 1, 0) := by decide +kernel
theorem i119_26 : J.cd 119 26 = some (.iload 1, 27, 0, 0, 0) := by decide +kernel
theorem i119_27 : J.cd 119 27 = some (.invokevirtual 54, 30, 138, 1, 0) := by decide +kernel
theorem i119_30 : J.cd 119 30 = some (.invokevirtual 61, 33, 163, 0, 0) := by decide +kernel
theorem i119_33 : J.cd 119 33 = some (.invokespecial 65, 36, 120, 2, 2) := by decide +kernel
theorem i119_36 : J.cd 119 36 = some (.athrow, 37, 36, 0, 0) := by decide +kernel
theorem i119_37 : J.cd 119 37 = some (.return_, 38, 37, 0, 0) := by decide +kernel
theorem b119_0 (d : Nat) (h : J.H) (Q : J.O → J.H → Prop) (x0 x1 : Int) : J.WP d 119 0 [J.I x0, J.I x1] [] h Q ↔ if x1 < x0 then ((J.us h + (13 : Nat) ≤ J.UM) ∧ ((J.us (J.nw h 21 0 (13 : Nat)) + (11 : Nat) ≤ J.UM) ∧ (J.ik (J.cl (J.nw (J.nw h 21 0 (13 : Nat)) 4 0 (11 : Nat)) (J.nx (J.nw h 21 0 (13 : Nat)))) = true ∧ 0 < d ∧ J.WP (d - 1) 4 0 [J.R (J.nx (J.nw h 21 0 (13 : Nat)))] [] (J.nw (J.nw h 21 0 (13 : Nat)) 4 0 (11 : Nat)) (J.af J.WP d 119 13 16 [J.I x0, J.I x1] [J.R (J.nx (J.nw h 21 0 (13 : Nat))), J.R (J.nx h), J.R (J.nx h)] Q)))) else (Q (Sum.inl none) h) := by
  refine (J.r_iload i119_0 rfl).trans ?_
  refine (J.r_iload i119_1 rfl).trans ?_
  refine (J.r_icge i119_2).trans (J.ite2 ?_ ?_)
  · refine (J.r_new i119_5).trans (and_congr_right fun q0 => ?_)
    refine (J.r_dupR i119_8).trans ?_
    refine (J.r_new i119_9).trans (and_congr_right fun q1 => ?_)
    refine (J.r_dupR i119_12).trans ?_
    exact J.r_spec i119_13 (by decide) ⟨by decide, Nat.le_of_ble_eq_true rfl⟩ rfl rfl (Nat.le_of_ble_eq_true rfl)
  · exact J.r_ret i119_37 rfl
theorem b119_16 (d : Nat) (h : J.H) (Q : J.O → J.H → Prop) (x0 x1 s0 s1 s2 : Int) : J.WP d 119 16 [J.I x0, J.I x1] [J.R s2, J.R s1, J.R s0] h Q ↔ J.cl h s2 = 4 ∧ 0 < d ∧ J.WP (d - 1) 105 0 [J.R s2, J.I x0] [] h (J.af J.WP d 119 17 20 [J.I x0, J.I x1] [J.R s1, J.R s0] Q) := by
  refine (J.r_iload i119_16 rfl).trans ?_
  exact J.r_virt1 (k2 := 105) (m := 2) 4 i119_17 rfl (by decide +kernel) (by decide) rfl (Nat.le_of_ble_eq_true rfl)
theorem b119_20 (d : Nat) (h : J.H) (Q : J.O → J.H → Prop) (x0 x1 s0 s1 s2 : Int) : J.WP d 119 20 [J.I x0, J.I x1] [J.R s2, J.R s1, J.R s0] h Q ↔ J.cl h s2 = 4 ∧ 0 < d ∧ J.WP (d - 1) 85 0 [J.R s2, J.R (J.gv h (-1) 1060)] [] h (J.af J.WP d 119 23 26 [J.I x0, J.I x1] [J.R s1, J.R s0] Q) := by
  refine (J.r_ldcs i119_20).trans ?_
  exact J.r_virt1 (k2 := 85) (m := 2) 4 i119_23 rfl (by decide +kernel) (by decide) rfl (Nat.le_of_ble_eq_true rfl)
theorem b119_26 (d : Nat) (h : J.H) (Q : J.O → J.H → Prop) (x0 x1 s0 s1 s2 : Int) : J.WP d 119 26 [J.I x0, J.I x1] [J.R s2, J.R s1, J.R s0] h Q ↔ J.cl h s2 = 4 ∧ 0 < d ∧ J.WP (d - 1) 105 0 [J.R s2, J.I x1] [] h (J.af J.WP d 119 27 30 [J.I x0, J.I x1] [J.R s1, J.R s0] Q) := by
  refine (J.r_iload i119_26 rfl).trans ?_
  exact J.r_virt1 (k2 := 105) (m := 2) 4 i119_27 rfl (by decide +kernel) (by decide) rfl (Nat.le_of_ble_eq_true rfl)
theorem b119_30 (d : Nat) (h : J.H) (Q : J.O → J.H → Prop) (x0 x1 s0 s1 s2 : Int) : J.WP d 119 30 [J.I x0, J.I x1] [J.R s2, J.R s1, J.R s0] h Q ↔ J.cl h s2 = 4 ∧ 0 < d ∧ J.WP (d - 1) 111 0 [J.R s2] [] h (J.af J.WP d 119 30 33 [J.I x0, J.I x1] [J.R s1, J.R s0] Q) := by
  exact J.r_virt1 (k2 := 111) (m := 1) 4 i119_30 rfl (by decide +kernel) (by decide) rfl (Nat.le_of_ble_eq_true rfl)
theorem b119_33 (d : Nat) (h : J.H) (Q : J.O → J.H → Prop) (x0 x1 s0 s1 s2 : Int) : J.WP d 119 33 [J.I x0, J.I x1] [J.R s2, J.R s1, J.R s0] h Q ↔ J.ik (J.cl h s1) = true ∧ 0 < d ∧ J.WP (d - 1) 120 0 [J.R s1, J.R s2] [] h (J.af J.WP d 119 33 36 [J.I x0, J.I x1] [J.R s0] Q) := by
  exact J.r_spec i119_33 (by decide) ⟨by decide, Nat.le_of_ble_eq_true rfl⟩ rfl rfl (Nat.le_of_ble_eq_true rfl)
theorem b119_36 (d : Nat) (h : J.H) (Q : J.O → J.H → Prop) (x0 x1 s0 : Int) : J.WP d 119 36 [J.I x0, J.I x1] [J.R s0] h Q ↔ (J.cl h s0 = 21) ∧ Q (Sum.inr s0) h := by
  exact J.r_throw i119_36 rfl
/-! 129 java/lang/StringBuilder.append(C)Ljava/lang/StringBuilder; -/
theorem i129_0 : J.cd 129 0 = some (.aload 0, 1, 0, 0, 0) := by decide +kernel
theorem i129_1 : J.cd 129 1 = some (.iload 1, 2, 0, 0, 0) := by decide +kernel
theorem i129_2 : J.cd 129 2 = some (.invokespecial 50, 5, 130, 2, 2) := by decide +kernel
theorem i129_5 : J.cd 129 5 = some (.pop, 6, 5, 0, 0) := by decide +kernel
theorem i129_6 : J.cd 129 6 = some (.aload 0, 7, 0, 0, 0) := by decide +kernel
theorem i129_7 : J.cd 129 7 = some (.areturn, 8, 7, 0, 0) := by decide +kernel
theorem b129_0 (d : Nat) (h : J.H) (Q : J.O → J.H → Prop) (x0 x1 : Int) : J.WP d 129 0 [J.R x0, J.I x1] [] h Q ↔ J.ik (J.cl h x0) = true ∧ 0 < d ∧ J.WP (d - 1) 130 0 [J.R x0, J.I x1] [] h (J.af J.WP d 129 2 5 [J.R x0, J.I x1] [] Q) := by
  refine (J.r_aload i129_0 rfl).trans ?_
  refine (J.r_iload i129_1 rfl).trans ?_
  exact J.r_spec i129_2 (by decide) ⟨by decide, Nat.le_of_ble_eq_true rfl⟩ rfl rfl (Nat.le_of_ble_eq_true rfl)
theorem b129_5 (d : Nat) (h : J.H) (Q : J.O → J.H → Prop) (x0 x1 s0 : Int) : J.WP d 129 5 [J.R x0, J.I x1] [J.R s0] h Q ↔ Q (Sum.inl (some (J.R x0))) h := by
  refine (J.r_popR i129_5).trans ?_
  refine (J.r_aload i129_6 rfl).trans ?_
  exact J.r_aret i129_7 rfl
/-! 130 java/lang/AbstractStringBuilder.append(C)Ljava/lang/AbstractStringBuilder; -/
theorem i130_0 : J.cd 130 0 = some (.aload 0, 1, 0, 0, 0) := by decide +kernel
theorem i130_1 : J.cd 130 1 = some (.aload 0, 2, 0, 0, 0) := by decide +kernel
theorem i130_2 : J.cd 130 2 = some (.getfield 79, 5, 10, 86, 0) := by decide +kernel
theorem i130_5 : J.cd 130 5 = some (.iconst 1, 6, 5, 0, 0) := by decide +kernel
theorem i130_6 : J.cd 130 6 = some (.iadd, 7, 6, 0, 0) := by decide +kernel
theorem i130_7 : J.cd 130 7 = some (.invokevirtual 100, 10, 199, 1, 0) := by decide +kernel
theorem i130_10 : J.cd 130 10 = some (.aload 0, 11, 0, 0, 0) := by decide +kernel
theorem i130_11 : J.cd 130 11 = some (.invokevirtual 83, 14, 201, 0, 0) := by decide +kernel
theorem i130_14 : J.cd 130 14 = some (.ifCond .eq 31, 17, 45, 0, 0) := by decide +kernel
theorem i130_17 : J.cd 130 17 = some (.iload 1, 18, 0, 0, 0) := by decide +kernel
theorem i130_18 : J.cd 130 18 = some (.invokestatic 191, 21, 131, 1, 1) := by decide +kernel
theorem i130_21 : J.cd 130 21 = some (.ifCond .eq 24, 24, 45, 0, 0) := by decide +kernel
theorem i130_24 : J.cd 130 24 = some (.aload 0, 25, 0, 0, 0) := by decide +kernel
theorem i130_25 : J.cd 130 25 = some (.getfield 15, 28, 7, 86, 2) := by decide +kernel
theorem i130_28 : J.cd 130 28 = some (.aload 0, 29, 0, 0, 0) := by decide +kernel
theorem i130_29 : J.cd 130 29 = some (.dup, 30, 29, 0, 0) := by decide +kernel
theorem i130_30 : J.cd 130 30 = some (.getfield 79, 33, 10, 86, 0) := by decide +kernel
theorem i130_33 : J.cd 130 33 = some (.dup_x1, 34, 33, 0, 0) := by decide +kernel
theorem i130_34 : J.cd 130 34 = some (.iconst 1, 35, 34, 0, 0) := by decide +kernel
theorem i130_35 : J.cd 130 35 = some (.iadd, 36, 35, 0, 0) := by decide +kernel
theorem i130_36 : J.cd 130 36 = some (.putfield 79, 39, 10, 86, 0) := by decide +kernel
theorem i130_39 : J.cd 130 39 = some (.iload 1, 40, 0, 0, 0) := by decide +kernel
theorem i130_40 : J.cd 130 40 = some (.i2b, 41, 40, 0, 0) := by decide +kernel
theorem i130_41 : J.cd 130 41 = some (.bastore, 42, 41, 0, 0) := by decide +kernel
theorem i130_42 : J.cd 130 42 = some (.goto 33, 45, 75, 0, 0) := by decide +kernel
theorem i130_45 : J.cd 130 45 = some (.aload 0, 46, 0, 0, 0) := by decide +kernel
theorem i130_46 : J.cd 130 46 = some (.invokevirtual 83, 49, 201, 0, 0) := by decide +kernel
theorem i130_49 : J.cd 130 49 = some (.ifCond .eq 7, 52, 56, 0, 0) := by decide +kernel
theorem i130_52 : J.cd 130 52 = some (.aload 0, 53, 0, 0, 0) := by decide +kernel
theorem i130_53 : J.cd 130 53 = some (.invokevirtual 195, 56, 206, 0, 0) := by decide +kernel
theorem i130_56 : J.cd 130 56 = some (.aload 0, 57, 0, 0, 0) := by decide +kernel
theorem i130_57 : J.cd 130 57 = some (.getfield 15, 60, 7, 86, 2) := by decide +kernel
theorem i130_60 : J.cd 130 60 = some (.aload 0, 61, 0, 0, 0) := by decide +kernel
theorem i130_61 : J.cd 130 61 = some (.dup, 62, 61, 0, 0) := by decide +kernel
theorem i130_62 : J.cd 130 62 = some (.getfield 79, 65, 10, 86, 0) := by decide +kernel
theorem i130_65 : J.cd 130 65 = some (.dup_x1, 66, 65, 0, 0) := by decide +kernel
theorem i130_66 : J.cd 130 66 = some (.iconst 1, 67, 66, 0, 0) := by decide +kernel
theorem i130_67 : J.cd 130 67 = some (.iadd, 68, 67, 0, 0) := by decide +kernel
theorem i130_68 : J.cd 130 68 = some (.putfield 79, 71, 10, 86, 0) := by decide +kernel
theorem i130_71 : J.cd 130 71 = some (.iload 1, 72, 0, 0, 0) := by decide +kernel
theorem i130_72 : J.cd 130 72 = some (.invokestatic 197, 75, 132, 3, 3) := by decide +kernel
theorem i130_75 : J.cd 130 75 = some (.aload 0, 76, 0, 0, 0) := by decide +kernel
theorem i130_76 : J.cd 130 76 = some (.areturn, 77, 76, 0, 0) := by decide +kernel
theorem b130_0 (d : Nat) (h : J.H) (Q : J.O → J.H → Prop) (x0 x1 : Int) : J.WP d 130 0 [J.R x0, J.I x1] [] h Q ↔ (J.sb (J.cl h x0) 86 = true) ∧ (J.cl h x0 = 4 ∧ 0 < d ∧ J.WP (d - 1) 78 0 [J.R x0, J.I (J.w32 ((J.gv h x0 10) + 1)), J.U] [] h (J.af J.WP d 130 7 10 [J.R x0, J.I x1] [] Q)) := by
  refine (J.r_aload i130_0 rfl).trans ?_
  refine (J.r_aload i130_1 rfl).trans ?_
  refine (J.r_getI i130_2).trans (and_congr_right fun q0 => ?_)
  refine (J.r_iconst i130_5).trans ?_
  refine (J.r_iadd i130_6).trans ?_
  exact J.r_virt1 (k2 := 78) (m := 3) 4 i130_7 rfl (by decide +kernel) (by decide) rfl (Nat.le_of_ble_eq_true rfl)
theorem b130_10 (d : Nat) (h : J.H) (Q : J.O → J.H → Prop) (x0 x1 : Int) : J.WP d 130 10 [J.R x0, J.I x1] [] h Q ↔ J.cl h x0 = 4 ∧ 0 < d ∧ J.WP (d - 1) 81 0 [J.R x0] [] h (J.af J.WP d 130 11 14 [J.R x0, J.I x1] [] Q) := by
  refine (J.r_aload i130_10 rfl).trans ?_
  exact J.r_virt1 (k2 := 81) (m := 1) 4 i130_11 rfl (by decide +kernel) (by decide) rfl (Nat.le_of_ble_eq_true rfl)
theorem b130_14 (d : Nat) (h : J.H) (Q : J.O → J.H → Prop) (x0 x1 s0 : Int) : J.WP d 130 14 [J.R x0, J.I x1] [J.I s0] h Q ↔ if s0 = 0 then (J.WP d 130 45 [J.R x0, J.I x1] [] h Q) else (0 < d ∧ J.WP (d - 1) 131 0 [J.I x1] [] h (J.af J.WP d 130 18 21 [J.R x0, J.I x1] [] Q)) := by
  refine (J.r_ifeq i130_14).trans (J.ite2 ?_ ?_)
  · exact Iff.rfl
  · refine (J.r_iload i130_17 rfl).trans ?_
    exact J.r_stat i130_18 (by decide) (Nat.le_of_ble_eq_true rfl) rfl rfl (Nat.le_of_ble_eq_true rfl)
theorem b130_21 (d : Nat) (h : J.H) (Q : J.O → J.H → Prop) (x0 x1 s0 : Int) : J.WP d 130 21 [J.R x0, J.I x1] [J.I s0] h Q ↔ if s0 = 0 then (J.WP d 130 45 [J.R x0, J.I x1] [] h Q) else ((J.sb (J.cl h x0) 86 = true) ∧ ((J.sb (J.cl h x0) 86 = true ∧ J.cl h x0 < 300) ∧ ((((J.cl h (J.gv h x0 7) = 203 ∧ J.zo (J.i8 x1)) ∨ (J.cl h (J.gv h x0 7) = 204 ∧ J.br (J.i8 x1))) ∧ J.rg (J.gv h x0 10) (J.ln h (J.gv h x0 7))) ∧ (J.WP d 130 75 [J.R x0, J.I x1] [] (J.sv (J.sv h x0 10 (J.w32 ((J.gv h x0 10) + 1))) (J.gv h x0 7) (J.gv h x0 10) (J.i8 x1)) Q)))) := by
  refine (J.r_ifeq i130_21).trans (J.ite2 ?_ ?_)
  · exact Iff.rfl
  · refine (J.r_aload i130_24 rfl).trans ?_
    refine (J.r_getR i130_25).trans (and_congr_right fun q0 => ?_)
    refine (J.r_aload i130_28 rfl).trans ?_
    refine (J.r_dupR i130_29).trans ?_
    refine (J.r_getI i130_30).trans ((J.tru q0).trans ?_)
    refine (J.r_dupx1IR i130_33).trans ?_
    refine (J.r_iconst i130_34).trans ?_
    refine (J.r_iadd i130_35).trans ?_
    refine (J.r_putI i130_36).trans (and_congr_right fun q1 => ?_)
    refine (J.r_iload i130_39 rfl).trans ?_
    refine (J.r_i2b i130_40).trans ?_
    refine (J.r_bastore i130_41).trans (and_congr_right fun q2 => ?_)
    refine (J.r_goto i130_42).trans ?_
    exact Iff.rfl
theorem b130_45 (d : Nat) (h : J.H) (Q : J.O → J.H → Prop) (x0 x1 : Int) : J.WP d 130 45 [J.R x0, J.I x1] [] h Q ↔ J.cl h x0 = 4 ∧ 0 < d ∧ J.WP (d - 1) 81 0 [J.R x0] [] h (J.af J.WP d 130 46 49 [J.R x0, J.I x1] [] Q) := by
  refine (J.r_aload i130_45 rfl).trans ?_
  exact J.r_virt1 (k2 := 81) (m := 1) 4 i130_46 rfl (by decide +kernel) (by decide) rfl (Nat.le_of_ble_eq_true rfl)
theorem b130_49 (d : Nat) (h : J.H) (Q : J.O → J.H → Prop) (x0 x1 s0 : Int) : J.WP d 130 49 [J.R x0, J.I x1] [J.I s0] h Q ↔ if s0 = 0 then (J.WP d 130 56 [J.R x0, J.I x1] [] h Q) else (J.cl h x0 = 4 ∧ 0 < d ∧ J.WP (d - 1) 98 0 [J.R x0, J.U] [] h (J.af J.WP d 130 53 56 [J.R x0, J.I x1] [] Q)) := by
  refine (J.r_ifeq i130_49).trans (J.ite2 ?_ ?_)
  · exact Iff.rfl
  · refine (J.r_aload i130_52 rfl).trans ?_
    exact J.r_virt1 (k2 := 98) (m := 2) 4 i130_53 rfl (by decide +kernel) (by decide) rfl (Nat.le_of_ble_eq_true rfl)
theorem b130_56 (d : Nat) (h : J.H) (Q : J.O → J.H → Prop) (x0 x1 : Int) : J.WP d 130 56 [J.R x0, J.I x1] [] h Q ↔ (J.sb (J.cl h x0) 86 = true) ∧ ((J.sb (J.cl h x0) 86 = true ∧ J.cl h x0 < 300) ∧ (0 < d ∧ J.WP (d - 1) 132 0 [J.R (J.gv h x0 7), J.I (J.gv h x0 10), J.I x1] [] (J.sv h x0 10 (J.w32 ((J.gv h x0 10) + 1))) (J.af J.WP d 130 72 75 [J.R x0, J.I x1] [] Q))) := by
  refine (J.r_aload i130_56 rfl).trans ?_
  refine (J.r_getR i130_57).trans (and_congr_right fun q0 => ?_)
  refine (J.r_aload i130_60 rfl).trans ?_
  refine (J.r_dupR i130_61).trans ?_
  refine (J.r_getI i130_62).trans ((J.tru q0).trans ?_)
  refine (J.r_dupx1IR i130_65).trans ?_
  refine (J.r_iconst i130_66).trans ?_
  refine (J.r_iadd i130_67).trans ?_
  refine (J.r_putI i130_68).trans (and_congr_right fun q1 => ?_)
  refine (J.r_iload i130_71 rfl).trans ?_
  exact J.r_stat i130_72 (by decide) (Nat.le_of_ble_eq_true rfl) rfl rfl (Nat.le_of_ble_eq_true rfl)
theorem b130_75 (d : Nat) (h : J.H) (Q : J.O → J.H → Prop) (x0 x1 : Int) : J.WP d 130 75 [J.R x0, J.I x1] [] h Q ↔ Q (Sum.inl (some (J.R x0))) h := by
  refine (J.r_aload i130_75 rfl).trans ?_
  exact J.r_aret i130_76 rfl
/-! 131 java/lang/StringLatin1.canEncode(C)Z -/
theorem i131_0 : J.cd 131 0 = some (.iload 0, 1, 0, 0, 0) := by decide +kernel
theorem i131_1 : J.cd 131 1 = some (.iconst 255, 4, 0, 0, 0) := by decide +kernel
theorem i131_4 : J.cd 131 4 = some (.if_icmp .gt 7, 7, 11, 0, 0) := by decide +kernel
theorem i131_7 : J.cd 131 7 = some (.iconst 1, 8, 7, 0, 0) := by decide +kernel
theorem i131_8 : J.cd 131 8 = some (.goto 4, 11, 12, 0, 0) := by decide +kernel
theorem i131_11 : J.cd 131 11 = some (.iconst 0, 12, 11, 0, 0) := by decide +kernel
theorem i131_12 : J.cd 131 12 = some (.ireturn, 13, 0, 0, 3) := by decide +kernel
theorem b131_0 (d : Nat) (h : J.H) (Q : J.O → J.H → Prop) (x0 : Int) : J.WP d 131 0 [J.I x0] [] h Q ↔ if x0 ≤ 255 then (J.WP d 131 12 [J.I x0] [J.I 1] h Q) else (J.WP d 131 12 [J.I x0] [J.I 0] h Q) := by
  refine (J.r_iload i131_0 rfl).trans ?_
  refine (J.r_iconst i131_1).trans ?_
  refine (J.r_icgt i131_4).trans (J.ite2 ?_ ?_)
  · refine (J.r_iconst i131_7).trans ?_
    refine (J.r_goto i131_8).trans ?_
    exact Iff.rfl
  · refine (J.r_iconst i131_11).trans ?_
    exact Iff.rfl
theorem b131_12 (d : Nat) (h : J.H) (Q : J.O → J.H → Prop) (x0 s0 : Int) : J.WP d 131 12 [J.I x0] [J.I s0] h Q ↔ (J.zo s0) ∧ Q (Sum.inl (some (J.I s0))) h := by
  exact J.r_iretZ i131_12 rfl
/-! 134 java/lang/String.checkIndex(II)V -/
theorem i134_0 : J.cd 134 0 = some (.iload 0, 1, 0, 0, 0) := by decide +kernel
theorem i134_1 : J.cd 134 1 = some (.iload 1, 2, 0, 0, 0) := by decide +kernel
theorem i134_2 : J.cd 134 2 = some (.getstatic 1053, 5, 5, 0, 2) := by decide +kernel
theorem i134_5 : J.cd 134 5 = some (.invokestatic 1059, 8, 32, 3, 3) := by decide +kernel
theorem i134_8 : J.cd 134 8 = some (.pop, 9, 8, 0, 0) := by decide +kernel
theorem i134_9 : J.cd 134 9 = some (.return_, 10, 9, 0, 0) := by decide +kernel
theorem b134_0 (d : Nat) (h : J.H) (Q : J.O → J.H → Prop) (x0 x1 : Int) : J.WP d 134 0 [J.I x0, J.I x1] [] h Q ↔ 0 < d ∧ J.WP (d - 1) 32 0 [J.I x0, J.I x1, J.R (J.gv h (-1) 5)] [] h (J.af J.WP d 134 5 8 [J.I x0, J.I x1] [] Q) := by
  refine (J.r_iload i134_0 rfl).trans ?_
  refine (J.r_iload i134_1 rfl).trans ?_
  refine (J.r_getsR i134_2).trans ?_
  exact J.r_stat i134_5 (by decide) (Nat.le_of_ble_eq_true rfl) rfl rfl (Nat.le_of_ble_eq_true rfl)
theorem b134_8 (d : Nat) (h : J.H) (Q : J.O → J.H → Prop) (x0 x1 s0 : Int) : J.WP d 134 8 [J.I x0, J.I x1] [J.I s0] h Q ↔ Q (Sum.inl none) h := by
  refine (J.r_popI i134_8).trans ?_
  exact J.r_ret i134_9 rfl
/-! 550 java/lang/StringBuilder.charAt(I)C -/
theorem i550_0 : J.cd 550 0 = some (.aload 0, 1, 0, 0, 0) := by decide +kernel
theorem i550_1 : J.cd 550 1 = some (.iload 1, 2, 0, 0, 0) := by decide +kernel
theorem i550_2 : J.cd 550 2 = some (.invokespecial 329, 5, 551, 2, 5) := by decide +kernel
theorem i550_5 : J.cd 550 5 = some (.ireturn, 6, 0, 0, 5) := by decide +kernel
theorem b550_0 (d : Nat) (h : J.H) (Q : J.O → J.H → Prop) (x0 x1 : Int) : J.WP d 550 0 [J.R x0, J.I x1] [] h Q ↔ J.ik (J.cl h x0) = true ∧ 0 < d ∧ J.WP (d - 1) 551 0 [J.R x0, J.I x1, J.U, J.U, J.U] [] h (J.af J.WP d 550 2 5 [J.R x0, J.I x1] [] Q) := by
  refine (J.r_aload i550_0 rfl).trans ?_
  refine (J.r_iload i550_1 rfl).trans ?_
  exact J.r_spec i550_2 (by decide) ⟨by decide, Nat.le_of_ble_eq_true rfl⟩ rfl rfl (Nat.le_of_ble_eq_true rfl)
theorem b550_5 (d : Nat) (h : J.H) (Q : J.O → J.H → Prop) (x0 x1 s0 : Int) : J.WP d 550 5 [J.R x0, J.I x1] [J.I s0] h Q ↔ (J.cr s0) ∧ Q (Sum.inl (some (J.I s0))) h := by
  exact J.r_iretC i550_5 rfl
/-! 551 java/lang/AbstractStringBuilder.charAt(I)C -/
theorem i551_0 : J.cd 551 0 = some (.aload 0, 1, 0, 0, 0) := by decide +kernel
theorem i551_1 : J.cd 551 1 = some (.getfield 22, 4, 8, 86, 4) := by decide +kernel
theorem i551_4 : J.cd 551 4 = some (.istore 2, 5, 0, 0, 0) := by decide +kernel
theorem i551_5 : J.cd 551 5 = some (.aload 0, 6, 0, 0, 0) := by decide +kernel
theorem i551_6 : J.cd 551 6 = some (.getfield 15, 9, 7, 86, 2) := by decide +kernel
theorem i551_9 : J.cd 551 9 = some (.astore 3, 10, 0, 0, 0) := by decide +kernel
theorem i551_10 : J.cd 551 10 = some (.aload 0, 11, 0, 0, 0) := by decide +kernel
theorem i551_11 : J.cd 551 11 = some (.getfield 79, 14, 10, 86, 0) := by decide +kernel
theorem i551_14 : J.cd 551 14 = some (.aload 3, 15, 0, 0, 0) := by decide +kernel
theorem i551_15 : J.cd 551 15 = some (.arraylength, 16, 15, 0, 0) := by decide +kernel
theorem i551_16 : J.cd 551 16 = some (.iload 2, 17, 0, 0, 0) := by decide +kernel
theorem i551_17 : J.cd 551 17 = some (.ishr, 18, 17, 0, 0) := by decide +kernel
theorem i551_18 : J.cd 551 18 = some (.invokestatic 138, 21, 26, 2, 2) := by decide +kernel
theorem i551_21 : J.cd 551 21 = some (.istore 4, 23, 21, 0, 0) := by decide +kernel
theorem i551_23 : J.cd 551 23 = some (.iload 1, 24, 0, 0, 0) := by decide +kernel
theorem i551_24 : J.cd 551 24 = some (.iload 4, 26, 24, 0, 0) := by decide +kernel
theorem i551_26 : J.cd 551 26 = some (.invokestatic 144, 29, 134, 2, 2) := by decide +kernel
theorem i551_29 : J.cd 551 29 = some (.iload 2, 30, 0, 0, 0) := by decide +kernel
theorem i551_30 : J.cd 551 30 = some (.ifCond .ne 12, 33, 42, 0, 0) := by decide +kernel
theorem i551_33 : J.cd 551 33 = some (.aload 3, 34, 0, 0, 0) := by decide +kernel
theorem i551_34 : J.cd 551 34 = some (.iload 1, 35, 0, 0, 0) := by decide +kernel
theorem i551_35 : J.cd 551 35 = some (.baload, 36, 35, 0, 0) := by decide +kernel
theorem i551_36 : J.cd 551 36 = some (.iconst 255, 39, 0, 0, 0) := by decide +kernel
theorem i551_39 : J.cd 551 39 = some (.iand, 40, 39, 0, 0) := by decide +kernel
theorem i551_40 : J.cd 551 40 = some (.i2c, 41, 40, 0, 0) := by decide +kernel
theorem i551_41 : J.cd 551 41 = some (.ireturn, 42, 0, 0, 5) := by decide +kernel
theorem i551_42 : J.cd 551 42 = some (.aload 3, 43, 0, 0, 0) := by decide +kernel
theorem i551_43 : J.cd 551 43 = some (.iload 1, 44, 0, 0, 0) := by decide +kernel
theorem i551_44 : J.cd 551 44 = some (.invokestatic 148, 47, 126, 2, 2) := by decide +kernel
theorem i551_47 : J.cd 551 47 = some (.ireturn, 48, 0, 0, 5) := by decide +kernel
theorem b551_0 (d : Nat) (h : J.H) (Q : J.O → J.H → Prop) (x0 x1 : Int) : J.WP d 551 0 [J.R x0, J.I x1, J.U, J.U, J.U] [] h Q ↔ (J.sb (J.cl h x0) 86 = true) ∧ ((J.ia (J.cl h (J.gv h x0 7)) = true) ∧ (0 < d ∧ J.WP (d - 1) 26 0 [J.I (J.gv h x0 10), J.I (J.shr32 (J.ln h (J.gv h x0 7)) (J.gv h x0 8))] [] h (J.af J.WP d 551 18 21 [J.R x0, J.I x1, J.I (J.gv h x0 8), J.R (J.gv h x0 7), J.U] [] Q))) := by
  refine (J.r_aload i551_0 rfl).trans ?_
  refine (J.r_getB i551_1).trans (and_congr_right fun q0 => ?_)
  refine (J.r_istore i551_4 (Nat.le_of_ble_eq_true rfl) rfl).trans ?_
  refine (J.r_aload i551_5 rfl).trans ?_
  refine (J.r_getR i551_6).trans ((J.tru q0).trans ?_)
  refine (J.r_astore i551_9 (Nat.le_of_ble_eq_true rfl) rfl).trans ?_
  refine (J.r_aload i551_10 rfl).trans ?_
  refine (J.r_getI i551_11).trans ((J.tru q0).trans ?_)
  refine (J.r_aload i551_14 rfl).trans ?_
  refine (J.r_alen i551_15).trans (and_congr_right fun q1 => ?_)
  refine (J.r_iload i551_16 rfl).trans ?_
  refine (J.r_ishr i551_17).trans ?_
  exact J.r_stat i551_18 (by decide) (Nat.le_of_ble_eq_true rfl) rfl rfl (Nat.le_of_ble_eq_true rfl)
theorem b551_21 (d : Nat) (h : J.H) (Q : J.O → J.H → Prop) (x0 x1 x2 x3 s0 : Int) : J.WP d 551 21 [J.R x0, J.I x1, J.I x2, J.R x3, J.U] [J.I s0] h Q ↔ 0 < d ∧ J.WP (d - 1) 134 0 [J.I x1, J.I s0] [] h (J.af J.WP d 551 26 29 [J.R x0, J.I x1, J.I x2, J.R x3, J.I s0] [] Q) := by
  refine (J.r_istore i551_21 (Nat.le_of_ble_eq_true rfl) rfl).trans ?_
  refine (J.r_iload i551_23 rfl).trans ?_
  refine (J.r_iload i551_24 rfl).trans ?_
  exact J.r_stat i551_26 (by decide) (Nat.le_of_ble_eq_true rfl) rfl rfl (Nat.le_of_ble_eq_true rfl)
theorem b551_29 (d : Nat) (h : J.H) (Q : J.O → J.H → Prop) (x0 x1 x2 x3 x4 : Int) : J.WP d 551 29 [J.R x0, J.I x1, J.I x2, J.R x3, J.I x4] [] h Q ↔ if x2 = 0 then ((J.isA (J.cl h x3) 3 = true ∧ J.rg x1 (J.ln h x3)) ∧ ((J.cr ((J.and32 (J.gv h x3 x1) 255) % 65536)) ∧ Q (Sum.inl (some (J.I ((J.and32 (J.gv h x3 x1) 255) % 65536)))) h)) else (0 < d ∧ J.WP (d - 1) 126 0 [J.R x3, J.I x1] [] h (J.af J.WP d 551 44 47 [J.R x0, J.I x1, J.I x2, J.R x3, J.I x4] [] Q)) := by
  refine (J.r_iload i551_29 rfl).trans ?_
  refine (J.r_ifne i551_30).trans (J.ite2 ?_ ?_)
  · refine (J.r_aload i551_33 rfl).trans ?_
    refine (J.r_iload i551_34 rfl).trans ?_
    refine (J.r_baload i551_35).trans (and_congr_right fun q0 => ?_)
    refine (J.r_iconst i551_36).trans ?_
    refine (J.r_iand i551_39).trans ?_
    refine (J.r_i2c i551_40).trans ?_
    exact J.r_iretC i551_41 rfl
  · refine (J.r_aload i551_42 rfl).trans ?_
    refine (J.r_iload i551_43 rfl).trans ?_
    exact J.r_stat i551_44 (by decide) (Nat.le_of_ble_eq_true rfl) rfl rfl (Nat.le_of_ble_eq_true rfl)
theorem b551_47 (d : Nat) (h : J.H) (Q : J.O → J.H → Prop) (x0 x1 x2 x3 x4 s0 : Int) : J.WP d 551 47 [J.R x0, J.I x1, J.I x2, J.R x3, J.I x4] [J.I s0] h Q ↔ (J.cr s0) ∧ Q (Sum.inl (some (J.I s0))) h := by
  exact J.r_iretC i551_47 rfl
