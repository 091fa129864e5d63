section
/-! the small machine: its tables, printed by tools/tables.py: methods (their bytes, own class, whether <init>), constant pools by class (16*index and: 0 field, 1 static field, 2 static method, 3 virtual, 4 class, 5 string, 6 int, 7 long, 8 <init>, 9 a method of a superclass), superclasses, selections -/
set_option maxRecDepth 100000
def J.mt0 : List (ByteArray × Nat × Nat) := [(prog_1_method_36_code, 1, 107), (object_method_1_code, 85, 107), (prog_43_method_7_code, 2, 107), (prog_44_method_1_code, 3, 107), (prog_106_method_1_code, 4, 107), (prog_91_method_2_code, 86, 107), (prog_108_method_2_code, 98, 2), (prog_108_method_3_code, 98, 0), (prog_34_method_1_code, 5, 107), (prog_115_method_2_code, 6, 107), (prog_114_method_1_code, 87, 107), (prog_113_method_1_code, 99, 107), (prog_39_method_1_code, 7, 107), (prog_21_method_1_code, 8, 107), (prog_33_method_1_code, 9, 107), (prog_30_method_1_code, 10, 107), (prog_27_method_1_code, 88, 107), (prog_115_method_25_code, 6, 3), (prog_115_method_24_code, 6, 7), (prog_115_method_7_code, 6, 2), (prog_115_method_6_code, 6, 2), (prog_122_method_27_code, 100, 0), (prog_102_method_65_code, 101, 0), (prog_122_method_28_code, 100, 0), (prog_116_method_119_code, 102, 2), (prog_116_method_120_code, 102, 2), (prog_102_method_69_code, 101, 0), (prog_7_method_11_code, 11, 107), (prog_10_method_1_code, 105, 2), (prog_7_method_13_code, 11, 2), (prog_115_method_20_code, 6, 2), (prog_119_method_17_code, 106, 0), (prog_123_method_11_code, 107, 0), (prog_115_method_18_code, 6, 2), (prog_115_method_8_code, 6, 0), (prog_7_method_12_code, 11, 2), (prog_13_method_1_code, 12, 107), (prog_11_method_1_code, 89, 107), (prog_9_method_1_code, 13, 107), (prog_12_method_1_code, 14, 107), (prog_16_method_1_code, 15, 107), (prog_8_method_1_code, 16, 107), (prog_15_method_1_code, 17, 107), (prog_115_method_40_code, 6, 7), (prog_60_method_1_code, 18, 107), (prog_69_method_1_code, 19, 107), (prog_1_method_38_code, 1, 7), (prog_34_method_8_code, 5, 7), (prog_21_method_6_code, 8, 7), (prog_21_method_5_code, 8, 7), (prog_7_method_16_code, 11, 7), (prog_7_method_15_code, 11, 7), (prog_1_method_39_code, 1, 7), (prog_43_method_8_code, 2, 7), (prog_1_method_40_code, 1, 0), (prog_43_method_9_code, 2, 0), (prog_1_method_41_code, 1, 0), (prog_43_method_10_code, 2, 0), (prog_52_method_1_code, 20, 107), (prog_44_method_2_code, 3, 7), (prog_52_method_21_code, 20, 7), (prog_52_method_5_code, 20, 7), (prog_52_method_4_code, 20, 7), (prog_52_method_3_code, 20, 0), (prog_52_method_6_code, 20, 7), (prog_43_method_2_code, 2, 3), (prog_43_method_3_code, 2, 3), (prog_52_method_8_code, 20, 7), (prog_43_method_5_code, 2, 3), (prog_43_method_4_code, 2, 3), (prog_52_method_2_code, 20, 2), (prog_110_method_1_code, 22, 107), (prog_110_method_18_code, 22, 2), (prog_98_method_1_code, 21, 107), (prog_104_method_1_code, 90, 107), (prog_97_method_1_code, 108, 107), (prog_106_method_89_code, 4, 7), (prog_91_method_13_code, 86, 7), (prog_91_method_9_code, 86, 7), (prog_91_method_10_code, 86, 0), (prog_116_method_121_code, 102, 2), (prog_91_method_68_code, 86, 3), (prog_107_method_48_code, 109, 7), (prog_116_method_110_code, 102, 7), (prog_116_method_30_code, 102, 7), (prog_106_method_7_code, 4, 2), (prog_91_method_22_code, 86, 2), (prog_91_method_26_code, 86, 2), (prog_108_method_81_code, 98, 0), (prog_108_method_93_code, 98, 7), (prog_108_method_6_code, 98, 0), (prog_105_method_158_code, 23, 7), (prog_123_method_12_code, 107, 0), (prog_108_method_4_code, 98, 7), (prog_105_method_54_code, 23, 0), (prog_105_method_152_code, 23, 4), (prog_91_method_73_code, 86, 7), (prog_91_method_71_code, 86, 7), (prog_91_method_11_code, 86, 7), (prog_107_method_50_code, 109, 7)]
def J.mt1 : List (ByteArray × Nat × Nat) := [(prog_108_method_86_code, 98, 7), (prog_108_method_94_code, 98, 7), (prog_105_method_157_code, 23, 0), (prog_123_method_13_code, 107, 0), (prog_105_method_147_code, 23, 7), (prog_106_method_15_code, 4, 2), (prog_91_method_32_code, 86, 2), (prog_99_method_13_code, 111, 0), (prog_99_method_12_code, 111, 0), (prog_108_method_77_code, 98, 0), (prog_108_method_89_code, 98, 0), (prog_106_method_42_code, 4, 2), (prog_105_method_53_code, 23, 107), (prog_105_method_150_code, 23, 107), (prog_91_method_64_code, 86, 2), (prog_106_method_93_code, 4, 0), (prog_91_method_6_code, 86, 0), (prog_116_method_132_code, 102, 2), (prog_116_method_133_code, 102, 2), (prog_116_method_131_code, 102, 7), (prog_98_method_2_code, 21, 107), (prog_104_method_2_code, 90, 107), (prog_97_method_2_code, 108, 107), (prog_110_method_2_code, 22, 107), (prog_108_method_17_code, 98, 2), (prog_108_method_22_code, 98, 0), (prog_108_method_5_code, 98, 5), (prog_108_method_15_code, 98, 4), (prog_108_method_70_code, 98, 7), (prog_106_method_14_code, 4, 2), (prog_91_method_31_code, 86, 2), (prog_107_method_3_code, 109, 3), (prog_108_method_71_code, 98, 7), (prog_108_method_91_code, 98, 7), (prog_105_method_155_code, 23, 7), (prog_52_method_9_code, 20, 7), (prog_52_method_11_code, 20, 7), (prog_52_method_10_code, 20, 3), (prog_52_method_22_code, 20, 7), (prog_52_method_12_code, 20, 3), (prog_52_method_7_code, 20, 7), (prog_52_method_13_code, 20, 3), (prog_105_method_66_code, 23, 3), (prog_107_method_13_code, 109, 3), (prog_47_method_1_code, 24, 107), (prog_50_method_1_code, 25, 107), (prog_52_method_18_code, 20, 0), (prog_52_method_16_code, 20, 3), (prog_43_method_6_code, 2, 3), (prog_52_method_17_code, 20, 0), (prog_44_method_3_code, 3, 0), (prog_52_method_24_code, 20, 7), (prog_50_method_2_code, 25, 7), (prog_52_method_23_code, 20, 7), (prog_52_method_14_code, 20, 7), (prog_52_method_25_code, 20, 7), (prog_52_method_15_code, 20, 7), (prog_51_method_1_code, 26, 107), (prog_48_method_1_code, 91, 107), (prog_52_method_26_code, 20, 7), (prog_52_method_20_code, 20, 7), (prog_52_method_27_code, 20, 2), (prog_52_method_19_code, 20, 7), (prog_52_method_28_code, 20, 2), (prog_48_method_2_code, 91, 7), (prog_52_method_33_code, 20, 2), (prog_52_method_34_code, 20, 2), (prog_52_method_35_code, 20, 2), (prog_52_method_36_code, 20, 2), (prog_49_method_1_code, 27, 107), (prog_52_method_39_code, 20, 2), (prog_52_method_31_code, 20, 2), (prog_52_method_32_code, 20, 2), (prog_52_method_29_code, 20, 0), (prog_52_method_30_code, 20, 2), (prog_45_method_1_code, 28, 107), (prog_52_method_37_code, 20, 0), (prog_51_method_2_code, 26, 0), (prog_48_method_3_code, 91, 0), (prog_52_method_38_code, 20, 2), (prog_53_method_1_code, 29, 107), (prog_54_method_1_code, 30, 107), (prog_46_method_1_code, 31, 107), (prog_44_method_4_code, 3, 7), (prog_44_method_5_code, 3, 7), (prog_43_method_11_code, 2, 0), (prog_1_method_19_code, 1, 7), (prog_1_method_15_code, 1, 7), (prog_43_method_12_code, 2, 0), (prog_43_method_14_code, 2, 0), (prog_43_method_13_code, 2, 2), (prog_47_method_2_code, 24, 0), (prog_1_method_12_code, 1, 0), (prog_1_method_13_code, 1, 3), (prog_43_method_17_code, 2, 0), (prog_105_method_56_code, 23, 5), (prog_105_method_154_code, 23, 3), (prog_107_method_2_code, 109, 5), (prog_108_method_83_code, 98, 5), (prog_1_method_11_code, 1, 0)]
def J.mt2 : List (ByteArray × Nat × Nat) := [(prog_1_method_10_code, 1, 2), (prog_34_method_3_code, 5, 0), (prog_1_method_16_code, 1, 7), (prog_43_method_15_code, 2, 0), (prog_47_method_4_code, 24, 0), (prog_47_method_3_code, 24, 0), (prog_34_method_4_code, 5, 3), (prog_34_method_6_code, 5, 0), (prog_34_method_5_code, 5, 2), (prog_34_method_2_code, 5, 3), (prog_34_method_25_code, 5, 0), (prog_36_method_2_code, 32, 3), (prog_36_method_1_code, 32, 107), (prog_1_method_17_code, 1, 7), (prog_1_method_14_code, 1, 2), (prog_34_method_7_code, 5, 0), (prog_59_method_1_code, 33, 107), (prog_21_method_3_code, 8, 0), (prog_21_method_2_code, 8, 3), (prog_29_method_1_code, 34, 107), (prog_1_method_18_code, 1, 7), (prog_21_method_4_code, 8, 0), (prog_1_method_20_code, 1, 3), (prog_1_method_26_code, 1, 7), (prog_19_method_1_code, 35, 107), (prog_19_method_2_code, 35, 7), (prog_79_method_1_code, 36, 107), (prog_55_method_1_code, 92, 107), (prog_20_method_1_code, 96, 107), (prog_19_method_3_code, 35, 3), (prog_58_method_1_code, 37, 107), (prog_2_method_1_code, 93, 107), (prog_55_method_2_code, 92, 7), (prog_4_method_1_code, 38, 107), (prog_19_method_4_code, 35, 7), (prog_43_method_16_code, 2, 0), (prog_1_method_21_code, 1, 7), (prog_19_method_5_code, 35, 2), (prog_19_method_7_code, 35, 0), (prog_19_method_6_code, 35, 0), (prog_80_method_1_code, 39, 107), (prog_57_method_1_code, 40, 107), (prog_19_method_10_code, 35, 2), (prog_19_method_9_code, 35, 0), (prog_19_method_8_code, 35, 3), (prog_18_method_1_code, 41, 107), (prog_1_method_22_code, 1, 7), (prog_1_method_24_code, 1, 7), (prog_19_method_12_code, 35, 7), (prog_19_method_13_code, 35, 7), (prog_17_method_1_code, 42, 107), (prog_56_method_1_code, 43, 107), (prog_19_method_15_code, 35, 7), (prog_1_method_25_code, 1, 7), (prog_19_method_14_code, 35, 7), (prog_19_method_11_code, 35, 2), (prog_81_method_1_code, 44, 107), (prog_19_method_17_code, 35, 7), (prog_3_method_1_code, 45, 107), (prog_1_method_23_code, 1, 7), (prog_82_method_1_code, 46, 107), (prog_19_method_16_code, 35, 7), (prog_6_method_1_code, 47, 107), (prog_55_method_6_code, 92, 2), (prog_2_method_2_code, 93, 2), (prog_21_method_7_code, 8, 3), (prog_21_method_10_code, 8, 0), (prog_24_method_2_code, 48, 0), (prog_28_method_2_code, 49, 0), (prog_30_method_2_code, 10, 0), (prog_32_method_2_code, 50, 0), (prog_27_method_5_code, 88, 0), (prog_21_method_8_code, 8, 3), (prog_21_method_9_code, 8, 2), (prog_24_method_1_code, 48, 107), (prog_28_method_1_code, 49, 107), (prog_32_method_1_code, 50, 107), (prog_31_method_1_code, 51, 107), (prog_22_method_1_code, 55, 107), (prog_25_method_1_code, 52, 107), (prog_26_method_1_code, 53, 107), (prog_23_method_1_code, 54, 107), (prog_55_method_5_code, 92, 2), (prog_1_method_27_code, 1, 7), (prog_34_method_13_code, 5, 0), (prog_34_method_10_code, 5, 3), (prog_35_method_1_code, 56, 107), (prog_37_method_1_code, 94, 107), (prog_34_method_9_code, 5, 0), (prog_55_method_3_code, 92, 3), (prog_3_method_2_code, 45, 3), (prog_6_method_2_code, 47, 3), (prog_2_method_3_code, 93, 3), (prog_34_method_11_code, 5, 0), (prog_40_method_1_code, 57, 107), (prog_17_method_2_code, 42, 3), (prog_34_method_12_code, 5, 0), (prog_41_method_1_code, 58, 107), (prog_18_method_2_code, 41, 3), (prog_34_method_14_code, 5, 0)]
def J.mt3 : List (ByteArray × Nat × Nat) := [(prog_38_method_1_code, 59, 107), (prog_57_method_2_code, 40, 3), (prog_58_method_2_code, 37, 3), (prog_80_method_2_code, 39, 3), (prog_81_method_2_code, 44, 3), (prog_34_method_18_code, 5, 0), (prog_39_method_2_code, 7, 7), (prog_38_method_2_code, 59, 2), (prog_37_method_4_code, 94, 2), (prog_34_method_15_code, 5, 0), (prog_35_method_2_code, 56, 7), (prog_39_method_6_code, 7, 7), (prog_39_method_5_code, 7, 3), (prog_39_method_4_code, 7, 0), (prog_39_method_3_code, 7, 0), (prog_38_method_4_code, 59, 7), (prog_38_method_3_code, 59, 3), (prog_40_method_2_code, 57, 7), (prog_41_method_2_code, 58, 7), (prog_39_method_7_code, 7, 7), (prog_34_method_17_code, 5, 0), (prog_34_method_16_code, 5, 0), (prog_35_method_3_code, 56, 0), (prog_38_method_5_code, 59, 0), (prog_37_method_6_code, 94, 0), (prog_37_method_5_code, 94, 0), (prog_40_method_3_code, 57, 0), (prog_41_method_3_code, 58, 0), (prog_34_method_19_code, 5, 0), (prog_1_method_28_code, 1, 0), (prog_1_method_29_code, 1, 0), (prog_55_method_4_code, 92, 7), (prog_18_method_3_code, 41, 7), (prog_34_method_21_code, 5, 0), (prog_34_method_22_code, 5, 0), (prog_34_method_23_code, 5, 0), (prog_20_method_4_code, 96, 7), (prog_34_method_20_code, 5, 0), (prog_1_method_31_code, 1, 7), (prog_1_method_30_code, 1, 0), (prog_59_method_2_code, 33, 3), (prog_21_method_11_code, 8, 3), (prog_21_method_12_code, 8, 3), (prog_21_method_13_code, 8, 0), (prog_33_method_2_code, 9, 1), (prog_33_method_3_code, 9, 7), (prog_27_method_2_code, 88, 1), (prog_22_method_4_code, 55, 1), (prog_22_method_3_code, 55, 3), (prog_22_method_2_code, 55, 3), (prog_23_method_3_code, 54, 1), (prog_23_method_2_code, 54, 3), (prog_24_method_3_code, 48, 1), (prog_27_method_4_code, 88, 1), (prog_115_method_9_code, 6, 3), (prog_25_method_2_code, 52, 1), (prog_26_method_2_code, 53, 1), (prog_28_method_3_code, 49, 1), (prog_30_method_3_code, 10, 1), (prog_30_method_5_code, 10, 1), (prog_115_method_10_code, 6, 3), (prog_115_method_11_code, 6, 0), (prog_115_method_12_code, 6, 0), (prog_96_method_5_code, 104, 3), (object_method_4_code, 85, 3), (prog_30_method_4_code, 10, 2), (prog_31_method_2_code, 51, 1), (prog_32_method_3_code, 50, 1), (prog_101_method_49_code, 112, 0), (prog_99_method_48_code, 111, 0), (prog_21_method_14_code, 8, 0), (prog_55_method_10_code, 92, 2), (prog_20_method_8_code, 96, 2), (prog_1_method_33_code, 1, 7), (prog_1_method_32_code, 1, 3), (prog_55_method_8_code, 92, 3), (prog_55_method_9_code, 92, 2), (prog_21_method_16_code, 8, 0), (prog_21_method_15_code, 8, 2), (prog_30_method_6_code, 10, 2), (prog_27_method_10_code, 88, 2), (prog_3_method_3_code, 45, 3), (prog_2_method_4_code, 93, 0), (prog_21_method_17_code, 8, 0), (prog_22_method_5_code, 55, 0), (prog_27_method_6_code, 88, 0), (prog_22_method_6_code, 55, 0), (prog_27_method_8_code, 88, 0), (prog_22_method_7_code, 55, 0), (prog_27_method_9_code, 88, 0), (prog_2_method_5_code, 93, 3), (prog_2_method_6_code, 93, 7), (prog_21_method_19_code, 8, 3), (prog_7_method_17_code, 11, 3), (prog_7_method_14_code, 11, 3), (prog_7_method_22_code, 11, 0), (prog_7_method_19_code, 11, 3), (prog_7_method_18_code, 11, 2), (prog_8_method_4_code, 16, 0), (prog_12_method_2_code, 14, 0)]
def J.mt4 : List (ByteArray × Nat × Nat) := [(prog_16_method_2_code, 15, 0), (prog_11_method_3_code, 89, 0), (prog_8_method_2_code, 16, 2), (prog_7_method_20_code, 11, 0), (prog_2_method_7_code, 93, 3), (prog_21_method_18_code, 8, 3), (prog_23_method_4_code, 54, 3), (prog_25_method_3_code, 52, 3), (prog_27_method_7_code, 88, 3), (prog_55_method_7_code, 92, 3), (prog_7_method_21_code, 11, 0), (prog_6_method_3_code, 47, 3), (prog_17_method_3_code, 42, 3), (prog_18_method_4_code, 41, 3), (prog_7_method_23_code, 11, 0), (prog_15_method_2_code, 17, 2), (prog_57_method_3_code, 40, 3), (prog_58_method_3_code, 37, 3), (prog_80_method_3_code, 39, 3), (prog_81_method_3_code, 44, 3), (prog_1_method_5_code, 1, 3), (prog_7_method_24_code, 11, 0), (prog_14_method_1_code, 60, 107), (prog_8_method_5_code, 16, 2), (prog_9_method_2_code, 13, 2), (prog_7_method_6_code, 11, 2), (prog_7_method_5_code, 11, 0), (prog_7_method_4_code, 11, 3), (prog_7_method_3_code, 11, 2), (prog_8_method_9_code, 16, 0), (prog_13_method_3_code, 12, 0), (prog_8_method_3_code, 16, 2), (prog_11_method_4_code, 89, 2), (prog_15_method_4_code, 17, 3), (prog_8_method_6_code, 16, 3), (prog_11_method_6_code, 89, 0), (prog_8_method_10_code, 16, 2), (prog_11_method_7_code, 89, 2), (prog_8_method_7_code, 16, 3), (prog_7_method_8_code, 11, 2), (prog_7_method_7_code, 11, 3), (prog_7_method_9_code, 11, 0), (prog_12_method_3_code, 14, 2), (prog_13_method_2_code, 12, 2), (prog_15_method_3_code, 17, 2), (prog_16_method_3_code, 15, 2), (prog_7_method_2_code, 11, 2), (prog_7_method_1_code, 11, 2), (prog_7_method_10_code, 11, 2), (prog_115_method_29_code, 6, 2), (prog_115_method_39_code, 6, 7), (prog_96_method_2_code, 104, 0), (prog_7_method_27_code, 11, 0), (prog_1_method_34_code, 1, 2), (prog_5_method_1_code, 61, 107), (prog_79_method_2_code, 36, 7), (prog_3_method_4_code, 45, 7), (prog_5_method_6_code, 61, 0), (prog_5_method_7_code, 61, 0), (prog_5_method_2_code, 61, 2), (prog_1_method_37_code, 1, 2), (prog_42_method_1_code, 62, 107), (prog_42_method_2_code, 62, 2), (prog_5_method_3_code, 61, 7), (prog_5_method_8_code, 61, 7), (prog_4_method_2_code, 38, 7), (prog_1_method_9_code, 1, 7), (prog_7_method_25_code, 11, 0), (prog_1_method_8_code, 1, 0), (prog_7_method_28_code, 11, 0), (prog_8_method_8_code, 16, 0), (prog_15_method_5_code, 17, 0), (prog_11_method_5_code, 89, 0), (prog_1_method_6_code, 1, 7), (prog_1_method_7_code, 1, 3), (prog_6_method_4_code, 47, 7), (prog_1_method_2_code, 1, 0), (prog_1_method_1_code, 1, 3), (prog_1_method_3_code, 1, 7), (prog_1_method_4_code, 1, 7), (prog_17_method_4_code, 42, 7), (prog_5_method_4_code, 61, 0), (prog_18_method_5_code, 41, 7), (prog_56_method_2_code, 43, 7), (prog_57_method_4_code, 40, 7), (prog_58_method_4_code, 37, 7), (prog_80_method_4_code, 39, 7), (prog_81_method_4_code, 44, 7), (prog_82_method_2_code, 46, 7), (prog_42_method_4_code, 62, 2), (prog_5_method_5_code, 61, 7), (prog_1_method_35_code, 1, 7), (prog_60_method_3_code, 18, 3), (prog_60_method_6_code, 18, 0), (prog_60_method_4_code, 18, 2), (prog_60_method_5_code, 18, 3), (prog_60_method_2_code, 18, 3), (prog_73_method_1_code, 63, 107), (prog_42_method_3_code, 62, 0), (prog_42_method_5_code, 62, 0)]
def J.mt5 : List (ByteArray × Nat × Nat) := [(prog_60_method_8_code, 18, 0), (prog_60_method_7_code, 18, 2), (prog_68_method_1_code, 64, 107), (prog_67_method_1_code, 95, 107), (prog_72_method_1_code, 65, 107), (prog_70_method_1_code, 66, 107), (prog_76_method_1_code, 67, 107), (prog_74_method_1_code, 68, 107), (prog_75_method_1_code, 69, 107), (prog_62_method_1_code, 70, 107), (prog_66_method_1_code, 71, 107), (prog_78_method_1_code, 72, 107), (prog_77_method_1_code, 73, 107), (prog_61_method_1_code, 74, 107), (prog_71_method_1_code, 75, 107), (prog_63_method_1_code, 76, 107), (prog_64_method_1_code, 77, 107), (prog_65_method_1_code, 78, 107), (prog_73_method_2_code, 63, 0), (prog_1_method_42_code, 1, 0), (prog_1_method_43_code, 1, 0), (prog_1_method_45_code, 1, 0), (prog_1_method_44_code, 1, 2), (prog_1_method_46_code, 1, 0), (prog_1_method_47_code, 1, 0), (prog_1_method_48_code, 1, 0), (prog_1_method_49_code, 1, 0), (prog_42_method_6_code, 62, 0), (prog_1_method_50_code, 1, 0), (prog_1_method_51_code, 1, 0), (prog_43_method_19_code, 2, 0), (prog_47_method_6_code, 24, 7), (prog_45_method_4_code, 28, 7), (prog_48_method_7_code, 91, 7), (prog_48_method_6_code, 91, 7), (prog_45_method_3_code, 28, 3), (prog_45_method_2_code, 28, 0), (prog_46_method_2_code, 31, 3), (prog_43_method_1_code, 2, 3), (prog_49_method_2_code, 27, 3), (prog_53_method_2_code, 29, 3), (prog_54_method_2_code, 30, 3), (prog_48_method_5_code, 91, 3), (prog_46_method_3_code, 31, 7), (prog_49_method_3_code, 27, 7), (prog_51_method_3_code, 26, 7), (prog_53_method_3_code, 29, 7), (prog_54_method_3_code, 30, 7), (prog_47_method_5_code, 24, 7), (prog_43_method_20_code, 2, 0), (prog_106_method_88_code, 4, 5), (prog_91_method_14_code, 86, 5), (prog_1_method_52_code, 1, 3), (prog_60_method_9_code, 18, 3), (prog_69_method_2_code, 19, 7), (prog_69_method_3_code, 19, 7), (prog_1_method_53_code, 1, 0), (prog_60_method_10_code, 18, 0), (prog_69_method_23_code, 19, 0), (prog_69_method_22_code, 19, 7), (prog_69_method_18_code, 19, 7), (prog_69_method_17_code, 19, 3), (prog_69_method_24_code, 19, 7), (prog_61_method_2_code, 74, 7), (prog_69_method_15_code, 19, 7), (prog_62_method_3_code, 70, 7), (prog_69_method_4_code, 19, 1), (prog_69_method_8_code, 19, 3), (prog_62_method_2_code, 70, 3), (prog_63_method_2_code, 76, 7), (prog_69_method_16_code, 19, 7), (prog_102_method_66_code, 101, 1), (prog_69_method_20_code, 19, 7), (prog_69_method_19_code, 19, 7), (prog_64_method_2_code, 77, 7), (prog_69_method_21_code, 19, 7), (prog_69_method_5_code, 19, 7), (prog_69_method_6_code, 19, 7), (prog_69_method_7_code, 19, 7), (prog_65_method_2_code, 78, 7), (prog_66_method_2_code, 71, 7), (prog_68_method_2_code, 64, 7), (prog_70_method_2_code, 66, 7), (prog_69_method_12_code, 19, 7), (prog_71_method_2_code, 75, 7), (prog_72_method_2_code, 65, 7), (prog_74_method_2_code, 68, 7), (prog_69_method_13_code, 19, 0), (prog_69_method_10_code, 19, 0), (prog_69_method_11_code, 19, 1), (prog_75_method_3_code, 69, 7), (prog_75_method_2_code, 69, 0), (prog_76_method_2_code, 67, 7), (prog_69_method_9_code, 19, 0), (prog_77_method_2_code, 73, 7), (prog_69_method_14_code, 19, 7), (prog_78_method_2_code, 72, 7), (prog_1_method_54_code, 1, 0), (prog_60_method_11_code, 18, 0), (prog_1_method_58_code, 1, 0)]
def J.mt6 : List (ByteArray × Nat × Nat) := [(prog_1_method_57_code, 1, 0), (prog_34_method_24_code, 5, 0), (prog_1_method_56_code, 1, 7), (prog_1_method_55_code, 1, 7), (prog_1_method_59_code, 1, 0), (prog_84_method_1_code, 79, 107), (prog_88_method_1_code, 80, 107), (prog_87_method_1_code, 81, 107), (prog_87_method_3_code, 81, 7), (prog_86_method_1_code, 82, 107), (prog_86_method_3_code, 82, 7), (prog_86_method_13_code, 82, 0), (prog_86_method_4_code, 82, 7), (prog_85_method_1_code, 83, 107), (prog_85_method_3_code, 83, 7), (prog_85_method_8_code, 83, 0), (prog_89_method_1_code, 84, 107), (prog_84_method_3_code, 79, 7), (prog_88_method_4_code, 80, 7), (prog_88_method_3_code, 80, 7), (prog_84_method_4_code, 79, 0), (prog_88_method_5_code, 80, 0), (prog_84_method_72_code, 79, 0), (prog_84_method_70_code, 79, 7), (prog_87_method_14_code, 81, 7), (prog_86_method_7_code, 82, 7), (prog_88_method_60_code, 80, 0), (prog_88_method_11_code, 80, 7), (prog_88_method_10_code, 80, 7), (prog_88_method_9_code, 80, 3), (prog_88_method_8_code, 80, 3), (prog_88_method_7_code, 80, 3), (prog_88_method_12_code, 80, 7), (prog_88_method_15_code, 80, 7), (prog_88_method_14_code, 80, 3), (prog_88_method_13_code, 80, 7), (prog_88_method_17_code, 80, 7), (prog_88_method_6_code, 80, 0), (prog_88_method_16_code, 80, 7), (prog_88_method_59_code, 80, 3), (prog_88_method_18_code, 80, 3), (prog_88_method_21_code, 80, 3), (prog_88_method_20_code, 80, 3), (prog_88_method_49_code, 80, 3), (prog_88_method_23_code, 80, 0), (prog_88_method_22_code, 80, 3), (prog_88_method_53_code, 80, 3), (prog_88_method_50_code, 80, 3), (prog_88_method_52_code, 80, 3), (prog_88_method_26_code, 80, 3), (prog_88_method_51_code, 80, 3), (prog_88_method_27_code, 80, 3), (prog_88_method_54_code, 80, 3), (prog_88_method_57_code, 80, 3), (prog_88_method_55_code, 80, 3), (prog_88_method_19_code, 80, 3), (prog_88_method_56_code, 80, 3), (prog_88_method_58_code, 80, 3), (prog_88_method_30_code, 80, 0), (prog_88_method_28_code, 80, 7), (prog_88_method_31_code, 80, 7), (prog_88_method_32_code, 80, 7), (prog_88_method_25_code, 80, 7), (prog_88_method_33_code, 80, 7), (prog_88_method_29_code, 80, 7), (prog_88_method_34_code, 80, 7), (prog_88_method_24_code, 80, 0), (prog_88_method_35_code, 80, 7), (prog_88_method_38_code, 80, 7), (prog_88_method_39_code, 80, 7), (prog_88_method_36_code, 80, 0), (prog_88_method_37_code, 80, 0), (prog_88_method_43_code, 80, 7), (prog_88_method_44_code, 80, 7), (prog_88_method_42_code, 80, 7), (prog_88_method_45_code, 80, 7), (prog_88_method_41_code, 80, 7), (prog_88_method_40_code, 80, 0), (prog_88_method_46_code, 80, 7), (prog_88_method_47_code, 80, 7), (prog_88_method_48_code, 80, 7), (prog_88_method_63_code, 80, 7), (prog_88_method_61_code, 80, 7), (prog_88_method_62_code, 80, 0), (prog_88_method_64_code, 80, 0), (prog_84_method_5_code, 79, 3), (prog_84_method_71_code, 79, 3), (prog_84_method_14_code, 79, 3), (prog_88_method_65_code, 80, 0), (prog_88_method_67_code, 80, 0), (prog_88_method_66_code, 80, 3), (prog_84_method_9_code, 79, 3), (prog_84_method_7_code, 79, 0), (prog_84_method_6_code, 79, 3), (prog_88_method_73_code, 80, 0), (prog_84_method_8_code, 79, 0), (prog_87_method_6_code, 81, 0), (prog_84_method_10_code, 79, 3), (prog_88_method_69_code, 80, 0), (prog_88_method_68_code, 80, 0)]
def J.mt7 : List (ByteArray × Nat × Nat) := [(prog_87_method_7_code, 81, 3), (prog_87_method_11_code, 81, 0), (prog_87_method_8_code, 81, 0), (prog_87_method_4_code, 81, 3), (prog_87_method_9_code, 81, 3), (prog_87_method_12_code, 81, 0), (prog_84_method_12_code, 79, 3), (prog_84_method_11_code, 79, 0), (prog_87_method_13_code, 81, 0), (prog_86_method_5_code, 82, 0), (prog_84_method_13_code, 79, 3), (prog_86_method_6_code, 82, 0), (prog_84_method_31_code, 79, 3), (prog_84_method_15_code, 79, 0), (prog_84_method_30_code, 79, 3), (prog_84_method_29_code, 79, 3), (prog_88_method_72_code, 80, 0), (prog_88_method_70_code, 80, 0), (prog_84_method_19_code, 79, 3), (prog_84_method_21_code, 79, 3), (prog_84_method_18_code, 79, 0), (prog_84_method_17_code, 79, 0), (prog_84_method_20_code, 79, 7), (prog_84_method_16_code, 79, 7), (prog_84_method_26_code, 79, 3), (prog_84_method_28_code, 79, 3), (prog_84_method_22_code, 79, 3), (prog_84_method_23_code, 79, 3), (prog_84_method_24_code, 79, 3), (prog_84_method_25_code, 79, 3), (prog_84_method_27_code, 79, 3), (prog_84_method_32_code, 79, 3), (prog_86_method_9_code, 82, 3), (prog_86_method_8_code, 82, 3), (prog_86_method_14_code, 82, 0), (prog_86_method_11_code, 82, 3), (prog_86_method_10_code, 82, 3), (prog_86_method_12_code, 82, 3), (prog_84_method_36_code, 79, 3), (prog_87_method_18_code, 81, 0), (prog_87_method_10_code, 81, 3), (prog_87_method_5_code, 81, 3), (prog_87_method_15_code, 81, 0), (prog_84_method_33_code, 79, 3), (prog_84_method_34_code, 79, 3), (prog_87_method_17_code, 81, 0), (prog_87_method_19_code, 81, 0), (prog_87_method_16_code, 81, 0), (prog_87_method_28_code, 81, 0), (prog_87_method_26_code, 81, 0), (prog_87_method_25_code, 81, 7), (prog_87_method_20_code, 81, 7), (prog_87_method_21_code, 81, 7), (prog_87_method_24_code, 81, 7), (prog_87_method_23_code, 81, 3), (prog_87_method_22_code, 81, 3), (prog_87_method_27_code, 81, 3), (prog_87_method_29_code, 81, 0), (prog_87_method_30_code, 81, 0), (prog_84_method_35_code, 79, 7), (prog_87_method_31_code, 81, 0), (prog_84_method_38_code, 79, 3), (prog_84_method_37_code, 79, 0), (prog_86_method_16_code, 82, 3), (prog_86_method_15_code, 82, 3), (prog_86_method_34_code, 82, 0), (prog_86_method_18_code, 82, 7), (prog_86_method_17_code, 82, 1), (prog_86_method_26_code, 82, 3), (prog_86_method_22_code, 82, 7), (prog_86_method_19_code, 82, 3), (prog_86_method_21_code, 82, 7), (prog_86_method_23_code, 82, 7), (prog_86_method_20_code, 82, 3), (prog_86_method_24_code, 82, 7), (prog_86_method_25_code, 82, 7), (prog_86_method_28_code, 82, 3), (prog_86_method_29_code, 82, 3), (prog_86_method_27_code, 82, 7), (prog_86_method_30_code, 82, 3), (prog_86_method_31_code, 82, 3), (prog_86_method_32_code, 82, 3), (prog_86_method_33_code, 82, 0), (prog_86_method_35_code, 82, 0), (prog_84_method_44_code, 79, 3), (prog_85_method_4_code, 83, 7), (prog_84_method_43_code, 79, 3), (prog_84_method_39_code, 79, 7), (prog_86_method_39_code, 82, 3), (prog_85_method_5_code, 83, 3), (prog_84_method_42_code, 79, 0), (prog_84_method_40_code, 79, 0), (prog_86_method_37_code, 82, 0), (prog_85_method_11_code, 83, 0), (prog_85_method_7_code, 83, 3), (prog_85_method_6_code, 83, 3), (prog_85_method_9_code, 83, 7), (prog_87_method_32_code, 81, 0), (prog_87_method_33_code, 81, 0), (prog_85_method_12_code, 83, 0)]
def J.mt8 : List (ByteArray × Nat × Nat) := [(prog_84_method_41_code, 79, 3), (prog_86_method_38_code, 82, 3), (prog_85_method_10_code, 83, 0), (prog_86_method_36_code, 82, 0), (prog_85_method_38_code, 83, 0), (prog_85_method_24_code, 83, 0), (prog_85_method_22_code, 83, 7), (prog_85_method_27_code, 83, 7), (prog_85_method_23_code, 83, 7), (prog_85_method_20_code, 83, 0), (prog_85_method_19_code, 83, 3), (prog_85_method_18_code, 83, 0), (prog_85_method_28_code, 83, 7), (prog_85_method_29_code, 83, 7), (prog_85_method_13_code, 83, 3), (prog_85_method_14_code, 83, 0), (prog_85_method_33_code, 83, 7), (prog_85_method_30_code, 83, 7), (prog_85_method_15_code, 83, 0), (prog_85_method_34_code, 83, 7), (prog_85_method_32_code, 83, 3), (prog_85_method_31_code, 83, 0), (prog_85_method_25_code, 83, 7), (prog_85_method_21_code, 83, 0), (prog_85_method_26_code, 83, 7), (prog_85_method_16_code, 83, 0), (prog_85_method_17_code, 83, 0), (prog_85_method_35_code, 83, 0), (prog_84_method_68_code, 79, 3), (prog_84_method_67_code, 79, 7), (prog_84_method_50_code, 79, 7), (prog_84_method_54_code, 79, 7), (prog_85_method_36_code, 83, 0), (prog_85_method_39_code, 83, 0), (prog_84_method_51_code, 79, 7), (prog_84_method_52_code, 79, 3), (prog_84_method_53_code, 79, 0), (prog_84_method_45_code, 79, 0), (prog_84_method_47_code, 79, 7), (prog_84_method_48_code, 79, 7), (prog_84_method_55_code, 79, 7), (prog_84_method_49_code, 79, 0), (prog_84_method_56_code, 79, 7), (prog_84_method_66_code, 79, 7), (prog_84_method_63_code, 79, 7), (prog_84_method_61_code, 79, 7), (prog_84_method_46_code, 79, 7), (prog_84_method_62_code, 79, 7), (prog_84_method_65_code, 79, 7), (prog_84_method_59_code, 79, 7), (prog_84_method_57_code, 79, 7), (prog_84_method_58_code, 79, 0), (prog_84_method_60_code, 79, 7), (prog_84_method_64_code, 79, 7), (prog_84_method_69_code, 79, 7), (prog_89_method_3_code, 84, 3), (prog_89_method_7_code, 84, 0), (prog_89_method_4_code, 84, 0), (prog_89_method_5_code, 84, 3), (prog_89_method_6_code, 84, 3), (prog_89_method_11_code, 84, 0), (prog_89_method_10_code, 84, 3), (prog_89_method_8_code, 84, 3), (prog_89_method_9_code, 84, 3), (prog_84_method_73_code, 79, 0), (prog_84_method_74_code, 79, 0), (prog_84_method_76_code, 79, 0), (prog_84_method_75_code, 79, 3), (prog_84_method_77_code, 79, 0), (prog_84_method_78_code, 79, 0), (prog_84_method_79_code, 79, 0), (prog_84_method_80_code, 79, 0), (prog_84_method_81_code, 79, 0), (prog_84_method_82_code, 79, 0), (prog_88_method_89_code, 80, 0), (prog_88_method_76_code, 80, 7), (prog_88_method_75_code, 80, 7), (prog_88_method_77_code, 80, 7), (prog_88_method_86_code, 80, 7), (prog_88_method_85_code, 80, 7), (prog_88_method_87_code, 80, 7), (prog_88_method_88_code, 80, 7), (prog_88_method_83_code, 80, 7), (prog_88_method_81_code, 80, 7), (prog_88_method_84_code, 80, 7), (prog_88_method_71_code, 80, 0), (prog_88_method_78_code, 80, 7), (prog_88_method_82_code, 80, 7), (prog_88_method_80_code, 80, 3), (prog_88_method_79_code, 80, 1), (prog_88_method_90_code, 80, 0), (prog_84_method_83_code, 79, 3), (prog_89_method_41_code, 84, 3), (prog_89_method_18_code, 84, 7), (prog_89_method_15_code, 84, 0), (prog_89_method_13_code, 84, 7), (prog_84_method_84_code, 79, 0), (prog_89_method_42_code, 84, 0), (prog_89_method_31_code, 84, 7), (prog_89_method_17_code, 84, 0)]
def J.mt9 : List (ByteArray × Nat × Nat) := [(prog_89_method_14_code, 84, 7), (prog_89_method_12_code, 84, 0), (prog_89_method_40_code, 84, 7), (prog_89_method_26_code, 84, 7), (prog_89_method_25_code, 84, 7), (prog_89_method_24_code, 84, 1), (prog_89_method_29_code, 84, 7), (prog_89_method_27_code, 84, 3), (prog_89_method_23_code, 84, 3), (prog_89_method_30_code, 84, 7), (prog_89_method_38_code, 84, 7), (prog_89_method_28_code, 84, 0), (prog_89_method_36_code, 84, 7), (prog_89_method_37_code, 84, 7), (prog_89_method_35_code, 84, 3), (prog_89_method_32_code, 84, 7), (prog_89_method_33_code, 84, 7), (prog_89_method_39_code, 84, 7), (prog_89_method_19_code, 84, 7), (prog_89_method_16_code, 84, 0), (prog_89_method_22_code, 84, 7), (prog_89_method_20_code, 84, 7), (prog_89_method_21_code, 84, 3), (prog_89_method_34_code, 84, 7), (prog_84_method_85_code, 79, 0), (prog_89_method_43_code, 84, 0), (prog_84_method_90_code, 79, 0), (prog_84_method_88_code, 79, 0), (prog_84_method_86_code, 79, 7), (prog_84_method_87_code, 79, 7), (prog_84_method_89_code, 79, 0), (prog_87_method_34_code, 81, 0), (prog_84_method_91_code, 79, 0), (code, 97, 3)]
def J.mt : List (List (ByteArray × Nat × Nat)) := [J.mt0, J.mt1, J.mt2, J.mt3, J.mt4, J.mt5, J.mt6, J.mt7, J.mt8, J.mt9]
def J.cp1 : List (Nat × Nat × Nat × Int) := [(16, 121, 1, 12), (115, 70, 2, 0), (132, 2, 15, 0), (210, 477, 2, 2), (272, 130, 1, 12), (339, 115, 1, 0), (356, 61, 12, 218), (435, 116, 0, 0), (498, 478, 4, 9), (563, 113, 5, 0), (626, 476, 3, 4), (691, 117, 3, 0), (755, 118, 1, 0), (818, 420, 2, 3), (867, 58, 0, 0), (884, 6, 10, 0), (947, 60, 1, 0), (1012, 96, 0, 0), (1043, 112, 3, 0), (1107, 114, 2, 0), (1171, 119, 1, 0), (1188, 62, 15, 0), (1267, 120, 0, 0), (1312, 257, 62, 0), (1379, 121, 1, 0), (1440, 124, 1, 12), (1507, 110, 2, 0), (1571, 111, 2, 0), (1588, 11, 13, 0), (1616, 222, 96, 0), (1664, 222, 96, 0), (1684, 38, 12, 0), (1715, 109, 1, 0), (1760, 218, 92, 12), (1826, 473, 5, 9), (1888, 262, 62, 0), (1936, 136, 1, 0), (1984, 137, 1, 0), (2032, 138, 1, 0), (2084, 21, 13, 0), (2120, 2004, 1, 0), (2179, 46, 2, 0), (2227, 48, 1, 0), (2288, 132, 1, 0), (2336, 128, 1, 12), (2387, 49, 2, 0), (2432, 126, 1, 12), (2484, 33, 22, 0), (2512, 196, 33, 10), (2544, 197, 33, 10), (2595, 45, 1, 0), (2643, 47, 1, 0), (2691, 50, 1, 0), (2739, 51, 3, 0), (2800, 122, 1, 12), (2867, 52, 0, 0), (2884, 5, 20, 0), (2947, 54, 3, 0), (3011, 55, 1, 0), (3059, 56, 2, 0), (3104, 129, 1, 12), (3152, 133, 1, 0), (3203, 59, 2, 0), (3267, 61, 0, 0), (3320, 216, 5, 5), (3363, 62, 1, 0), (3424, 123, 1, 12), (3491, 63, 1, 0), (3508, 8, 13, 0), (3552, 206, 33, 0), (3600, 134, 1, 0), (3648, 199, 33, 12), (3696, 200, 33, 12), (3744, 202, 33, 12), (3792, 195, 33, 10), (3843, 65, 2, 0), (3891, 44, 0, 0), (3939, 53, 1, 0), (3987, 57, 1, 0), (4019, 64, 1, 0), (4048, 198, 33, 10), (4080, 201, 33, 12), (4128, 139, 1, 2), (4195, 66, 1, 0), (4259, 69, 0, 0), (4276, 35, 12, 0), (4340, 39, 14, 0), (4371, 71, 1, 0), (4424, 240, 4, 4), (4467, 72, 1, 0), (4484, 36, 12, 0), (4548, 40, 15, 0), (4584, 241, 4, 4), (4595, 73, 1, 0), (4659, 74, 1, 0), (4708, 41, 17, 0), (4744, 245, 4, 4), (4787, 75, 1, 0), (4818, 236, 4, 9), (4882, 247, 3, 6), (4952, 226, 2, 2), (4979, 82, 1, 0), (4996, 92, 0, 0), (5026, 246, 3, 4), (5076, 37, 15, 0), (5112, 230, 3, 3), (5155, 76, 2, 0), (5219, 77, 3, 0), (5283, 78, 3, 0), (5331, 81, 3, 0), (5380, 43, 12, 0), (5416, 251, 2, 2), (5426, 259, 4, 7), (5496, 233, 2, 2), (5508, 46, 12, 0), (5544, 260, 2, 2), (5555, 83, 4, 0), (5619, 79, 2, 0), (5683, 80, 1, 0), (5730, 253, 3, 4), (5800, 224, 3, 3), (5843, 68, 0, 0), (5891, 37, 0, 0), (5936, 208, 33, 2), (6003, 84, 1, 0), (6064, 220, 96, 10), (6112, 57, 8, 2), (6176, 209, 33, 2), (6195, 36, 0, 0), (6243, 86, 1, 0), (6275, 87, 1, 0), (6339, 88, 0, 0), (6387, 89, 1, 0), (6435, 90, 2, 0), (6499, 91, 2, 0), (6560, 207, 33, 0), (6608, 205, 33, 12), (6643, 92, 1, 0), (6688, 120, 1, 0), (6738, 330, 2, 5), (6800, 218, 92, 12), (6820, 44, 15, 0), (6852, 47, 17, 0), (6884, 93, 0, 0), (6912, 224, 93, 12), (6963, 95, 0, 0), (7011, 96, 2, 0), (7075, 97, 2, 0), (7139, 98, 2, 0), (7187, 99, 0, 0), (7219, 94, 2, 0), (7267, 100, 0, 0), (7315, 101, 1, 0), (7379, 38, 0, 0), (7392, 222, 96, 0), (7411, 104, 3, 0), (7475, 103, 2, 0), (7520, 203, 33, 12), (7571, 105, 1, 0), (7619, 106, 1, 0), (7667, 107, 2, 0), (7728, 127, 1, 12), (7776, 204, 33, 12), (7824, 255, 61, 0), (7872, 135, 1, 0), (7928, 454, 2, 2), (7968, 252, 61, 12), (8016, 254, 61, 0), (8050, 22, 2, 2), (8131, 108, 2, 0), (8144, 125, 1, 12), (8211, 123, 1, 0), (8228, 18, 16, 0), (8259, 124, 3, 0), (8304, 251, 61, 12), (8355, 125, 2, 0), (8424, 2005, 1, 0), (8472, 2, 1, 1), (8488, 8, 1, 2), (8504, 13, 1, 1), (8520, 27, 1, 2), (8536, 44, 1, 1), (8552, 9, 1, 1), (8564, 4, 11, 0), (8600, 4, 1, 1), (8608, 131, 1, 12), (8672, 141, 1, 12), (8720, 143, 1, 12), (8768, 144, 1, 12), (8832, 145, 1, 12), (8883, 34, 0, 0), (8928, 142, 1, 0), (8984, 461, 1, 1), (8995, 35, 0, 0), (9008, 140, 1, 3), (9072, 26, 5, 0), (9088, 32, 5, 12), (9120, 33, 5, 12), (9136, 56, 8, 12), (9152, 115, 18, 0), (9184, 117, 18, 0), (9200, 116, 18, 0), (9248, 112, 18, 12), (9296, 102, 19, 0), (9376, 103, 19, 0), (9424, 96, 19, 0), (9440, 104, 19, 0), (9456, 97, 19, 0), (9504, 105, 19, 0), (9552, 106, 19, 0), (9600, 99, 19, 0), (9648, 98, 19, 0), (9699, 39, 5, 0), (9763, 40, 1, 0), (9811, 41, 0, 0), (9859, 42, 1, 0), (9891, 43, 0, 0), (9939, 67, 0, 0), (9987, 85, 0, 0), (10035, 93, 0, 0), (10083, 102, 0, 0), (10131, 122, 0, 0), (10179, 126, 1, 0), (10243, 127, 2, 0), (10291, 128, 1, 0), (10307, 129, 1, 0), (10355, 130, 1, 0), (10403, 131, 1, 0), (10451, 132, 1, 0), (10515, 133, 3, 0), (10579, 134, 1, 0), (10627, 135, 1, 0), (10643, 144, 0, 0), (10723, 136, 0, 0), (10739, 145, 1, 0), (10803, 138, 1, 0), (10851, 139, 1, 0), (10915, 140, 2, 0), (10963, 141, 1, 0), (11011, 142, 1, 0), (11061, 1000, 1, 0), (11091, 143, 1, 0), (11143, 0, 0, (-2)), (11171, 146, 2, 0), (11239, 0, 0, (-1)), (11264, 76, 19, 12), (11312, 80, 19, 12), (11360, 78, 19, 12), (11408, 267, 63, 12), (11459, 137, 3, 0), (11525, 1001, 1, 0), (11557, 1002, 1, 0), (11587, 147, 1, 0)]
def J.cp2 : List (Nat × Nat × Nat × Int) := [(16, 185, 91, 10), (146, 65, 1, 1), (210, 66, 1, 1), (258, 69, 1, 1), (309, 1003, 1, 0), (339, 149, 1, 0), (437, 1004, 1, 0), (469, 1005, 1, 0), (501, 1006, 1, 0), (533, 1007, 1, 0), (568, 2005, 1, 0), (656, 11, 2, 12), (720, 12, 2, 12), (768, 15, 2, 0), (820, 3, 13, 0), (856, 3, 1, 1), (864, 16, 2, 2), (928, 17, 2, 2), (980, 4, 11, 0), (1016, 4, 1, 1), (1024, 18, 2, 12), (1088, 13, 2, 0), (1140, 20, 25, 0), (1176, 58, 4, 4), (1219, 148, 0, 0), (1268, 21, 13, 0), (1296, 157, 20, 0), (1344, 14, 2, 0), (1360, 158, 20, 0), (1376, 148, 20, 12), (1392, 4, 3, 0), (1440, 5, 3, 0), (1488, 6, 3, 0), (1536, 1, 3, 12), (1603, 150, 1, 0), (1664, 176, 24, 10), (1712, 178, 24, 0), (1763, 151, 0, 0), (1808, 179, 24, 0), (1856, 183, 24, 2), (1920, 189, 91, 0), (1968, 177, 24, 10), (2019, 152, 2, 0), (2080, 2, 3, 12), (2147, 153, 0, 0), (2192, 188, 91, 0), (2208, 186, 91, 10), (2224, 187, 91, 2), (2272, 3, 3, 12), (2339, 144, 0, 0), (2387, 145, 1, 0), (2675, 130, 1, 0), (2739, 154, 2, 0), (2803, 136, 0, 0), (2819, 147, 1, 0)]
def J.cp3 : List (Nat × Nat × Nat × Int) := [(56, 2005, 1, 0), (148, 24, 15, 211), (176, 1, 3, 12), (276, 91, 0, 212), (304, 2, 3, 12), (372, 23, 11, 213), (400, 3, 3, 12), (464, 4, 3, 0), (528, 5, 3, 0), (576, 6, 3, 0), (627, 149, 1, 0), (688, 189, 91, 0), (736, 188, 91, 0), (784, 187, 91, 2), (834, 184, 2, 2), (883, 155, 1, 0)]
def J.cp4 : List (Nat × Nat × Nat × Int) := [(24, 5, 2, 2), (292, 23, 11, 213), (467, 194, 1, 0), (473, 86, 2, 3), (803, 197, 1, 0), (809, 130, 2, 2), (851, 195, 1, 0), (857, 106, 2, 4), (2200, 112, 2, 2), (5267, 198, 1, 0), (5273, 551, 2, 5), (5331, 193, 1, 0), (5337, 77, 2, 2), (5491, 196, 0, 0), (5497, 116, 1, 1)]
def J.cp5 : List (Nat × Nat × Nat × Int) := [(24, 2005, 1, 0), (112, 26, 5, 0), (208, 31, 5, 12), (276, 6, 10, 0), (312, 9, 1, 1), (320, 32, 5, 12), (384, 33, 5, 12), (432, 34, 5, 12), (484, 7, 11, 0), (520, 12, 1, 1), (528, 35, 5, 12), (592, 36, 5, 12), (640, 37, 5, 0), (688, 27, 5, 0), (738, 209, 2, 2), (803, 210, 1, 0), (867, 58, 0, 0), (931, 211, 3, 0), (996, 32, 11, 0), (1032, 212, 5, 5), (1075, 62, 1, 0), (1139, 35, 0, 0), (1184, 38, 5, 3), (1251, 213, 0, 0), (1316, 57, 8, 0), (1352, 294, 2, 2), (1395, 214, 1, 0), (1460, 58, 9, 0), (1496, 297, 3, 3), (1539, 60, 1, 0), (1604, 201, 0, 0), (1620, 56, 9, 0), (1656, 286, 3, 3), (1700, 59, 12, 0), (1736, 300, 4, 4), (1776, 29, 5, 0), (1824, 24, 7, 3), (1876, 94, 0, 0), (1907, 218, 2, 0), (1968, 25, 7, 3), (2019, 216, 0, 0), (2080, 248, 59, 2), (2147, 215, 0, 0), (2163, 217, 0, 0), (2211, 219, 2, 0), (2275, 220, 0, 0), (2323, 221, 1, 0), (2386, 26, 2, 2), (2467, 222, 1, 0), (2528, 191, 32, 10), (2576, 249, 59, 0), (2624, 192, 32, 10), (2672, 193, 32, 10), (2720, 194, 32, 12), (2771, 212, 2, 0)]
def J.cp6 : List (Nat × Nat × Nat × Int) := [(24, 10, 1, 1), (116, 85, 0, 214), (144, 19, 6, 2), (625, 1, 0, 2), (768, 20, 6, 0), (1008, 21, 87, 0), (1058, 24, 2, 2), (1107, 225, 1, 0), (1170, 21, 3, 4), (1266, 22, 2, 2), (1363, 227, 1, 0), (1427, 228, 3, 0), (1491, 229, 1, 0), (1794, 2000, 5, 0), (1890, 31, 2, 2), (1971, 226, 1, 0), (2067, 224, 0, 0), (2099, 223, 3, 0), (2307, 230, 2, 0)]
def J.cp7 : List (Nat × Nat × Nat × Int) := [(56, 2005, 1, 0), (144, 22, 7, 12), (240, 23, 7, 12), (288, 25, 7, 3), (355, 232, 1, 0), (419, 222, 1, 0), (467, 231, 2, 0), (528, 24, 7, 3)]
def J.cp8 : List (Nat × Nat × Nat × Int) := [(24, 2005, 1, 0), (116, 6, 10, 0), (152, 9, 1, 1), (160, 56, 8, 12), (260, 9, 14, 0), (296, 14, 1, 1), (304, 57, 8, 2), (368, 58, 8, 12), (432, 60, 8, 0), (496, 43, 9, 12), (548, 10, 17, 0), (584, 15, 3, 3), (627, 62, 1, 0), (691, 58, 0, 0), (754, 218, 2, 2), (820, 34, 10, 0), (856, 219, 2, 2), (899, 60, 1, 0), (960, 212, 34, 0), (1008, 211, 34, 12), (1059, 95, 0, 0), (1104, 61, 8, 3), (1168, 59, 8, 0), (1216, 210, 34, 10), (1268, 48, 16, 0), (1304, 274, 3, 3), (1316, 49, 16, 0), (1352, 275, 3, 3), (1364, 50, 16, 0), (1400, 276, 3, 3), (1412, 51, 18, 0), (1448, 277, 4, 4), (1492, 52, 18, 0), (1528, 279, 4, 4), (1540, 53, 18, 0), (1576, 280, 5, 5), (1620, 54, 19, 0), (1656, 281, 5, 5), (1700, 55, 18, 0), (1736, 278, 5, 9), (1748, 88, 0, 0), (1776, 50, 88, 12), (1827, 237, 0, 0), (1872, 49, 88, 10), (1923, 238, 3, 0), (1987, 239, 5, 0), (2048, 55, 88, 2), (2112, 51, 88, 1), (2160, 44, 9, 12), (2208, 47, 88, 10), (2256, 39, 9, 1), (2304, 40, 9, 1), (2355, 240, 1, 0), (2416, 52, 88, 1), (2448, 41, 9, 0), (2496, 42, 9, 3), (2547, 241, 2, 0), (2599, 0, 0, (-1)), (2624, 54, 88, 2), (2658, 368, 1, 3), (2755, 242, 1, 0), (2819, 243, 1, 0), (2867, 244, 0, 0), (2912, 48, 88, 10), (2963, 245, 0, 0), (3011, 246, 1, 0), (3075, 247, 1, 0), (3136, 53, 88, 1)]
def J.cp9 : List (Nat × Nat × Nat × Int) := [(56, 2005, 1, 0), (148, 6, 10, 0), (184, 9, 1, 1), (192, 43, 9, 12), (288, 44, 9, 12), (352, 45, 9, 12), (402, 345, 2, 5), (464, 40, 9, 1), (532, 55, 18, 0), (560, 51, 88, 1), (580, 88, 0, 0), (640, 50, 88, 12), (691, 58, 0, 0), (755, 60, 1, 0)]
def J.cp10 : List (Nat × Nat × Nat × Int) := [(56, 16, 4, 4), (68, 88, 0, 0), (148, 6, 10, 0), (184, 9, 1, 1), (224, 46, 10, 12), (323, 35, 0, 0), (371, 58, 0, 0), (432, 50, 88, 12), (483, 249, 2, 0), (551, 0, 0, (-1)), (579, 251, 0, 0), (643, 252, 1, 0), (707, 60, 1, 0), (771, 250, 1, 0), (835, 241, 2, 0), (841, 346, 3, 4), (883, 62, 1, 0)]
def J.cp11 : List (Nat × Nat × Nat × Int) := [(17, 13, 0, 2), (113, 12, 0, 2), (161, 11, 0, 2), (209, 14, 0, 2), (257, 15, 0, 2), (304, 554, 105, 13), (368, 555, 105, 10), (434, 22, 2, 2), (530, 447, 2, 2), (627, 276, 0, 0), (644, 89, 0, 0), (723, 277, 1, 0), (788, 17, 15, 0), (816, 67, 17, 0), (867, 278, 0, 0), (931, 279, 1, 0), (948, 16, 12, 0), (1027, 60, 1, 0), (1044, 6, 10, 0), (1122, 428, 2, 4), (1187, 58, 0, 0), (1232, 69, 17, 0), (1282, 427, 2, 6), (1346, 426, 2, 4), (1410, 439, 4, 13), (1475, 275, 1, 0), (1538, 26, 2, 2), (1584, 68, 17, 0), (1632, 250, 60, 12), (1652, 60, 8, 0), (1731, 62, 1, 0), (1794, 440, 3, 5), (1858, 441, 3, 5), (1922, 448, 3, 6), (1986, 425, 3, 10), (2051, 280, 1, 0), (2104, 9, 1, 1), (2168, 2005, 1, 0), (2208, 70, 11, 12), (2258, 28, 0, 0), (2320, 73, 11, 12), (2368, 74, 11, 12), (2416, 75, 11, 12), (2483, 267, 2, 0), (2548, 12, 10, 0), (2584, 36, 1, 1), (2596, 13, 10, 0), (2632, 38, 1, 1), (2644, 14, 10, 0), (2680, 39, 1, 1), (2692, 15, 10, 0), (2728, 40, 1, 1), (2744, 41, 2, 2), (2792, 42, 1, 1), (2802, 35, 1, 1), (2848, 64, 89, 12), (2899, 35, 0, 0), (2944, 63, 89, 0), (2992, 71, 11, 1), (3056, 72, 11, 0), (3107, 268, 0, 0), (3154, 394, 2, 2), (3219, 270, 1, 0), (3267, 271, 0, 0), (3315, 269, 1, 0), (3363, 273, 2, 0), (3427, 272, 2, 0), (3491, 274, 4, 0), (3544, 422, 1, 1), (3555, 9003, 0, 0), (3600, 62, 89, 10), (3715, 282, 1, 0), (3763, 227, 1, 0)]
def J.cp12 : List (Nat × Nat × Nat × Int) := [(56, 37, 2, 2), (68, 89, 0, 0), (145, 11, 0, 2), (240, 64, 89, 12), (307, 58, 0, 0), (403, 60, 1, 0), (467, 275, 1, 0), (530, 446, 2, 2), (595, 278, 0, 0), (601, 432, 1, 1), (659, 284, 0, 0)]
def J.cp13 : List (Nat × Nat × Nat × Int) := [(56, 37, 2, 2), (144, 64, 89, 12), (210, 425, 3, 10)]
def J.cp14 : List (Nat × Nat × Nat × Int) := [(56, 37, 2, 2), (68, 89, 0, 0), (144, 64, 89, 12), (211, 254, 0, 0), (305, 13, 0, 2), (403, 60, 1, 0), (467, 275, 1, 0), (528, 555, 105, 10), (593, 11, 0, 2), (640, 554, 105, 13), (705, 12, 0, 2)]
def J.cp15 : List (Nat × Nat × Nat × Int) := [(56, 37, 2, 2), (68, 89, 0, 0), (144, 64, 89, 12), (211, 58, 0, 0), (305, 13, 0, 2), (403, 60, 1, 0), (467, 275, 1, 0), (528, 554, 105, 13), (594, 446, 2, 2), (656, 555, 105, 10), (722, 22, 2, 2), (818, 447, 2, 2)]
def J.cp16 : List (Nat × Nat × Nat × Int) := [(56, 37, 2, 2), (144, 65, 16, 2), (240, 66, 16, 1), (305, 11, 0, 2), (387, 9003, 0, 0)]
def J.cp17 : List (Nat × Nat × Nat × Int) := [(56, 41, 2, 2), (145, 11, 0, 2), (241, 12, 0, 2), (291, 285, 2, 0), (384, 67, 17, 0), (448, 68, 17, 0), (496, 69, 17, 0), (544, 250, 60, 12), (643, 250, 1, 0), (739, 286, 1, 0), (745, 423, 2, 2)]
def J.cp18 : List (Nat × Nat × Nat × Int) := [(24, 2005, 1, 0), (148, 63, 13, 216), (176, 111, 18, 12), (244, 19, 42, 0), (280, 45, 1, 1), (288, 112, 18, 12), (352, 113, 18, 12), (420, 4, 11, 0), (456, 4, 1, 1), (464, 114, 18, 12), (528, 118, 18, 12), (576, 119, 18, 12), (640, 116, 18, 0), (706, 496, 2, 2), (771, 287, 0, 0), (832, 115, 18, 0), (887, 0, 0, 10), (914, 495, 2, 6), (984, 497, 5, 5), (1024, 265, 63, 10), (1076, 64, 11, 0), (1112, 502, 3, 3), (1156, 65, 11, 0), (1192, 504, 3, 3), (1204, 66, 12, 0), (1240, 505, 4, 4), (1284, 67, 12, 0), (1320, 506, 4, 4), (1332, 68, 11, 0), (1368, 507, 3, 3), (1380, 69, 11, 0), (1416, 508, 5, 5), (1460, 70, 11, 0), (1496, 509, 4, 4), (1540, 71, 11, 0), (1576, 510, 2, 2), (1620, 72, 11, 0), (1656, 511, 4, 4), (1668, 73, 11, 0), (1704, 512, 2, 2), (1712, 266, 63, 10), (1760, 267, 63, 12), (1812, 74, 13, 217), (1848, 513, 3, 3), (1892, 75, 11, 0), (1928, 514, 2, 2), (1940, 76, 12, 0), (1976, 515, 3, 3), (2020, 77, 11, 0), (2056, 516, 1, 1), (2068, 78, 11, 0), (2104, 517, 1, 1), (2112, 117, 18, 0), (2163, 288, 7, 0), (2227, 289, 1, 0), (2291, 290, 4, 0), (2355, 291, 1, 0), (2416, 102, 19, 0), (2464, 103, 19, 0), (2512, 96, 19, 0), (2528, 104, 19, 0), (2576, 97, 19, 0), (2624, 105, 19, 0), (2672, 106, 19, 0), (2720, 99, 19, 0), (2768, 98, 19, 0)]
def J.cp19 : List (Nat × Nat × Nat × Int) := [(56, 2005, 1, 0), (150, 0, 0, 80060), (160, 76, 19, 12), (256, 77, 19, 12), (308, 63, 13, 216), (336, 78, 19, 12), (404, 74, 13, 217), (432, 79, 19, 12), (496, 80, 19, 12), (560, 81, 19, 12), (608, 82, 19, 12), (656, 83, 19, 12), (704, 84, 19, 12), (752, 85, 19, 12), (800, 86, 19, 12), (848, 87, 19, 12), (896, 88, 19, 12), (944, 89, 19, 12), (992, 90, 19, 12), (1040, 91, 19, 12), (1104, 92, 19, 2), (1152, 93, 19, 2), (1200, 102, 19, 0), (1264, 109, 19, 12), (1312, 110, 19, 12), (1360, 94, 19, 0), (1408, 95, 19, 0), (1456, 96, 19, 0), (1504, 97, 19, 0), (1552, 98, 19, 0), (1600, 99, 19, 0), (1648, 103, 19, 0), (1696, 104, 19, 0), (1744, 105, 19, 0), (1792, 106, 19, 0), (1840, 107, 19, 0), (1888, 108, 19, 0), (1939, 292, 3, 0), (2000, 101, 19, 0), (2048, 265, 63, 10), (2098, 22, 2, 2), (2192, 100, 19, 0), (2243, 301, 2, 0), (2307, 302, 0, 0), (2359, 0, 0, 1099511627776), (2391, 0, 0, 2199023255552), (2423, 0, 0, 31), (2451, 300, 2, 0), (2503, 0, 0, 32), (2531, 303, 1, 0), (2595, 141, 1, 0), (2659, 146, 2, 0), (2720, 266, 63, 10), (2771, 295, 1, 0), (2835, 298, 1, 0), (2899, 294, 0, 0), (2944, 264, 63, 13), (3011, 299, 1, 0), (3056, 277, 74, 12), (3104, 267, 63, 12), (3155, 293, 0, 0), (3203, 296, 0, 0), (3248, 269, 63, 0), (3264, 268, 63, 2), (3331, 297, 1, 0)]
def J.cp20 : List (Nat × Nat × Nat × Int) := [(56, 2005, 1, 0), (148, 4, 11, 0), (184, 4, 1, 1), (192, 149, 20, 12), (293, 1008, 1, 0), (320, 156, 20, 2), (384, 146, 20, 12), (448, 147, 20, 10), (512, 148, 20, 12), (579, 156, 0, 0), (656, 157, 20, 0), (704, 158, 20, 0), (756, 21, 13, 0), (792, 2004, 1, 0), (800, 150, 20, 0), (851, 159, 1, 0), (912, 151, 20, 3), (979, 158, 0, 0), (1024, 153, 20, 0), (1075, 160, 3, 0), (1138, 65, 1, 1), (1202, 66, 1, 1), (1251, 161, 1, 0), (1314, 69, 1, 1), (1363, 164, 0, 0), (1411, 165, 1, 0), (1456, 152, 20, 0), (1504, 154, 20, 0), (1552, 155, 20, 0), (1602, 68, 1, 1), (1651, 162, 2, 0), (1715, 130, 1, 0), (1763, 132, 1, 0), (1827, 163, 0, 0), (1895, 0, 0, 4294967296), (1927, 0, 0, 10), (1959, 0, 0, 48), (1991, 0, 0, 2147483648), (2016, 163, 20, 3), (2067, 166, 4, 0), (2131, 157, 0, 0), (2179, 149, 1, 0), (2275, 168, 1, 0), (2323, 169, 0, 0), (2371, 170, 1, 0), (2434, 148, 1, 1), (2483, 174, 1, 0), (2544, 6, 3, 0), (2592, 3, 3, 12), (2659, 172, 0, 0), (2723, 173, 0, 0), (2784, 159, 20, 0), (2832, 160, 20, 0), (2883, 167, 0, 0), (2928, 4, 3, 0), (2976, 1, 3, 12), (3040, 176, 24, 10), (3060, 24, 15, 211), (3120, 182, 24, 2), (3184, 188, 91, 0), (3232, 187, 91, 2), (3299, 155, 1, 0), (3344, 183, 24, 2), (3397, 1009, 1, 0), (3429, 1010, 1, 0), (3461, 1011, 1, 0), (3496, 144, 3, 3), (3539, 171, 0, 0), (3584, 178, 24, 0), (3619, 175, 1, 0), (3664, 180, 24, 12), (3731, 177, 1, 0), (3779, 179, 1, 0), (3812, 26, 13, 0), (3848, 157, 4, 4), (3874, 159, 2, 3), (3938, 165, 1, 3), (4003, 178, 1, 0), (4051, 176, 1, 0), (4128, 181, 24, 12), (4176, 175, 25, 0), (4197, 1012, 1, 0), (4229, 1013, 1, 0), (4261, 1014, 1, 0), (4275, 180, 1, 0), (4341, 1015, 1, 0), (4373, 1016, 1, 0), (4405, 1017, 1, 0), (4437, 1018, 1, 0), (4464, 179, 24, 0), (4499, 181, 0, 0), (4546, 161, 1, 3), (4595, 184, 1, 0), (4627, 182, 1, 0), (4677, 1019, 1, 0), (4707, 183, 1, 0), (4773, 1023, 1, 0), (4805, 1024, 1, 0), (4837, 1025, 1, 0), (4869, 1026, 1, 0), (4901, 1027, 1, 0), (4933, 1028, 1, 0), (4962, 171, 3, 6), (5026, 172, 2, 3), (5091, 186, 1, 0), (5136, 162, 20, 0), (5188, 28, 13, 0), (5218, 174, 1, 1), (5288, 175, 4, 4), (5330, 166, 1, 3), (5380, 31, 12, 0), (5416, 182, 2, 2), (5442, 167, 1, 3), (5488, 161, 20, 0), (5540, 30, 12, 0), (5576, 181, 2, 2), (5586, 168, 1, 3), (5636, 29, 12, 0), (5672, 180, 2, 2), (5685, 1020, 1, 0), (5716, 27, 12, 0), (5752, 169, 2, 2), (5765, 1021, 1, 0), (5797, 1022, 1, 0), (5827, 185, 0, 0), (5893, 1029, 1, 0), (5925, 1030, 1, 0), (5957, 1031, 1, 0), (5989, 1032, 1, 0), (6021, 1033, 1, 0), (6053, 1034, 1, 0), (6085, 1035, 1, 0), (6117, 1036, 1, 0), (6149, 1037, 1, 0), (6179, 187, 0, 0), (6224, 185, 91, 10), (6240, 186, 91, 10), (6259, 153, 0, 0), (6290, 179, 1, 1)]
def J.cp21 : List (Nat × Nat × Nat × Int) := []
def J.cp22 : List (Nat × Nat × Nat × Int) := []
def J.cp23 : List (Nat × Nat × Nat × Int) := [(24, 2005, 1, 0), (144, 170, 23, 12), (164, 23, 11, 213), (240, 171, 23, 14), (609, 0, 0, 3), (754, 127, 2, 2), (866, 117, 3, 3), (1698, 99, 5, 5), (3394, 2000, 5, 0), (5363, 205, 0, 0), (7832, 113, 3, 5), (7875, 209, 0, 0), (7922, 197, 2, 2), (7970, 198, 2, 2), (8658, 143, 2, 3), (8787, 196, 0, 0), (8835, 208, 0, 0), (16755, 201, 0, 0), (16768, 9, 86, 3), (16818, 124, 3, 6), (16849, 5, 0, 2), (16946, 32, 3, 3), (16994, 92, 4, 4), (17042, 103, 4, 4)]
def J.cp24 : List (Nat × Nat × Nat × Int) := [(56, 2005, 1, 0), (148, 25, 9, 0), (184, 145, 1, 1), (192, 180, 24, 12), (288, 181, 24, 12), (336, 176, 24, 10), (400, 177, 24, 10), (448, 175, 25, 0), (496, 182, 24, 2), (560, 188, 91, 0), (608, 174, 25, 2), (675, 151, 0, 0), (723, 190, 1, 0), (784, 187, 91, 2), (848, 189, 91, 0), (901, 1046, 1, 0), (933, 1047, 1, 0), (963, 188, 1, 0), (1061, 1048, 1, 0), (1093, 1049, 1, 0), (1120, 3, 3, 12), (1219, 132, 1, 0), (1267, 191, 2, 0), (1328, 183, 24, 2), (1381, 1042, 1, 0), (1413, 1043, 1, 0), (1445, 1044, 1, 0), (1477, 1045, 1, 0), (1504, 178, 24, 0), (1555, 192, 4, 0), (1621, 1050, 1, 0), (1648, 179, 24, 0), (1701, 1051, 1, 0), (1717, 1052, 1, 0), (1749, 1053, 1, 0), (1781, 1054, 1, 0), (1813, 1055, 1, 0), (1845, 1056, 1, 0)]
def J.cp25 : List (Nat × Nat × Nat × Int) := [(24, 2005, 1, 0), (112, 174, 25, 2), (208, 175, 25, 0)]
def J.cp26 : List (Nat × Nat × Nat × Int) := [(56, 158, 3, 3), (144, 184, 26, 10), (240, 185, 91, 10), (291, 138, 1, 0), (389, 1038, 1, 0), (419, 188, 1, 0), (469, 1039, 1, 0), (501, 1040, 1, 0), (528, 3, 3, 12), (624, 188, 91, 0), (675, 132, 1, 0), (725, 1041, 1, 0), (755, 189, 3, 0)]
def J.cp27 : List (Nat × Nat × Nat × Int) := [(56, 158, 3, 3), (144, 187, 91, 2), (208, 185, 91, 10), (277, 1061, 1, 0), (307, 188, 1, 0), (403, 343, 3, 0)]
def J.cp28 : List (Nat × Nat × Nat × Int) := [(24, 158, 3, 3), (112, 190, 28, 12), (132, 28, 13, 0), (208, 185, 91, 10), (272, 187, 91, 2), (339, 342, 0, 0), (403, 341, 3, 0)]
def J.cp29 : List (Nat × Nat × Nat × Int) := [(56, 158, 3, 3), (144, 187, 91, 2), (208, 185, 91, 10), (277, 1062, 1, 0), (307, 344, 3, 0)]
def J.cp30 : List (Nat × Nat × Nat × Int) := [(56, 158, 3, 3), (144, 187, 91, 2), (210, 538, 1, 1), (275, 346, 3, 0), (373, 1064, 1, 0), (403, 188, 1, 0), (501, 1065, 1, 0)]
def J.cp31 : List (Nat × Nat × Nat × Int) := [(56, 158, 3, 3), (144, 187, 91, 2), (210, 538, 1, 1), (272, 188, 91, 0), (336, 185, 91, 10), (389, 1063, 1, 0), (419, 345, 3, 0)]
def J.cp32 : List (Nat × Nat × Nat × Int) := [(24, 2005, 1, 0), (112, 191, 32, 10), (208, 192, 32, 10), (256, 193, 32, 10), (304, 194, 32, 12)]
def J.cp33 : List (Nat × Nat × Nat × Int) := [(56, 2005, 1, 0), (144, 199, 33, 12), (240, 200, 33, 12), (288, 201, 33, 12), (336, 202, 33, 12), (384, 203, 33, 12), (432, 204, 33, 12), (480, 205, 33, 12), (528, 195, 33, 10), (592, 196, 33, 10), (640, 197, 33, 10), (688, 198, 33, 10)]
def J.cp34 : List (Nat × Nat × Nat × Int) := [(56, 2005, 1, 0), (144, 211, 34, 12), (240, 210, 34, 10)]
def J.cp35 : List (Nat × Nat × Nat × Int) := [(48, 217, 35, 12), (152, 2005, 1, 0), (240, 214, 35, 12), (304, 215, 35, 12), (352, 213, 35, 12), (416, 197, 33, 10), (512, 207, 33, 0), (564, 36, 12, 0), (592, 198, 33, 10), (643, 50, 1, 0), (712, 226, 2, 2), (752, 208, 33, 2), (816, 121, 1, 12), (883, 45, 1, 0), (963, 309, 1, 0), (1028, 37, 15, 0), (1064, 230, 3, 3), (1107, 72, 1, 0), (1172, 38, 12, 0), (1208, 233, 2, 2), (1219, 310, 1, 0), (1235, 311, 2, 0), (1299, 46, 2, 0), (1344, 196, 33, 10), (1395, 54, 3, 0), (1459, 70, 2, 0), (1506, 236, 4, 9), (1572, 39, 14, 0), (1608, 240, 4, 4), (1650, 246, 3, 4), (1712, 195, 33, 10), (1747, 51, 3, 0), (1811, 312, 1, 0), (1856, 130, 1, 12), (1907, 75, 1, 0), (1955, 71, 1, 0), (2004, 42, 14, 0), (2040, 250, 4, 4), (2052, 43, 12, 0), (2088, 251, 2, 2), (2099, 313, 1, 0), (2115, 76, 2, 0), (2160, 216, 35, 0), (2179, 73, 1, 0), (2242, 253, 3, 4), (2308, 44, 15, 0), (2344, 256, 4, 4), (2388, 47, 17, 0), (2424, 262, 6, 6), (2467, 59, 2, 0), (2531, 74, 1, 0), (2580, 45, 15, 0), (2616, 258, 4, 4)]
def J.cp36 : List (Nat × Nat × Nat × Int) := [(24, 227, 3, 3), (112, 218, 92, 12), (179, 58, 0, 0), (272, 123, 1, 12), (371, 314, 2, 0), (377, 376, 3, 6), (435, 114, 2, 0)]
def J.cp37 : List (Nat × Nat × Nat × Int) := [(24, 231, 5, 5), (112, 223, 37, 13), (211, 364, 4, 0), (275, 113, 5, 0)]
def J.cp38 : List (Nat × Nat × Nat × Int) := [(24, 227, 3, 3), (114, 466, 3, 9)]
def J.cp39 : List (Nat × Nat × Nat × Int) := [(56, 231, 5, 5), (144, 224, 93, 12), (211, 327, 2, 0), (307, 328, 1, 0), (403, 329, 4, 0), (467, 115, 1, 0), (560, 123, 1, 12), (627, 113, 5, 0)]
def J.cp40 : List (Nat × Nat × Nat × Int) := [(56, 231, 5, 5), (144, 228, 40, 10), (243, 320, 1, 0), (307, 321, 1, 0), (371, 322, 4, 0), (432, 224, 93, 12), (499, 323, 4, 0), (592, 222, 96, 0), (627, 115, 1, 0), (720, 123, 1, 12), (787, 113, 5, 0), (851, 116, 0, 0), (915, 118, 1, 0)]
def J.cp41 : List (Nat × Nat × Nat × Int) := [(56, 231, 5, 5), (144, 229, 41, 10), (240, 224, 93, 12), (307, 55, 1, 0), (403, 330, 2, 0), (464, 227, 93, 0), (515, 331, 1, 0), (576, 230, 41, 0), (627, 127, 2, 0), (675, 332, 1, 0), (720, 231, 41, 0), (771, 333, 1, 0), (835, 334, 4, 0), (899, 335, 2, 0), (963, 323, 4, 0), (1056, 222, 96, 0), (1091, 336, 3, 0), (1152, 123, 1, 12), (1216, 221, 96, 0), (1267, 318, 2, 0), (1363, 116, 0, 0), (1459, 115, 1, 0), (1507, 113, 5, 0), (1571, 319, 2, 0), (1619, 118, 1, 0)]
def J.cp42 : List (Nat × Nat × Nat × Int) := [(56, 231, 5, 5), (144, 224, 93, 12), (211, 327, 2, 0), (307, 365, 4, 0), (403, 116, 0, 0), (499, 113, 5, 0), (563, 115, 1, 0), (627, 120, 0, 0), (672, 257, 62, 0), (771, 118, 1, 0)]
def J.cp43 : List (Nat × Nat × Nat × Int) := [(24, 227, 3, 3), (115, 116, 0, 0), (211, 113, 5, 0), (272, 218, 92, 12), (339, 60, 1, 0), (436, 96, 0, 0), (467, 114, 2, 0), (531, 120, 0, 0), (576, 257, 62, 0), (675, 118, 1, 0)]
def J.cp44 : List (Nat × Nat × Nat × Int) := [(24, 231, 5, 5), (112, 232, 44, 10), (211, 324, 1, 0), (275, 325, 1, 0), (338, 420, 2, 3), (435, 326, 4, 0), (496, 224, 93, 12), (563, 115, 1, 0), (656, 123, 1, 12), (722, 478, 4, 9), (787, 116, 0, 0), (851, 113, 5, 0), (915, 118, 1, 0)]
def J.cp45 : List (Nat × Nat × Nat × Int) := [(48, 195, 33, 10), (152, 231, 5, 5), (240, 233, 45, 12), (336, 224, 93, 12), (403, 55, 1, 0), (499, 86, 1, 0), (560, 200, 33, 12), (611, 315, 1, 0), (675, 316, 4, 0), (739, 317, 3, 0), (800, 123, 1, 12), (864, 143, 1, 12), (915, 96, 2, 0), (979, 115, 1, 0), (1056, 221, 96, 0), (1107, 318, 2, 0), (1187, 116, 0, 0), (1248, 201, 33, 12), (1299, 113, 5, 0), (1363, 319, 2, 0), (1411, 118, 1, 0)]
def J.cp46 : List (Nat × Nat × Nat × Int) := [(24, 227, 3, 3), (115, 116, 0, 0), (211, 113, 5, 0), (272, 218, 92, 12), (339, 60, 1, 0), (436, 96, 0, 0), (467, 114, 2, 0), (528, 124, 1, 12), (624, 222, 96, 0), (691, 105, 1, 0), (787, 120, 0, 0), (832, 257, 62, 0), (915, 118, 1, 0)]
def J.cp47 : List (Nat × Nat × Nat × Int) := [(24, 231, 5, 5), (112, 234, 47, 10), (208, 235, 47, 10), (256, 236, 47, 10), (307, 366, 1, 0), (371, 367, 4, 0), (434, 476, 3, 4), (531, 113, 5, 0), (627, 117, 3, 0)]
def J.cp48 : List (Nat × Nat × Nat × Int) := [(56, 16, 4, 4), (68, 88, 0, 0), (151, 0, 0, (-1)), (176, 50, 88, 12), (243, 58, 0, 0), (339, 60, 1, 0), (403, 241, 2, 0), (409, 346, 3, 4), (467, 257, 1, 0), (563, 254, 0, 0), (624, 52, 88, 1)]
def J.cp49 : List (Nat × Nat × Nat × Int) := [(56, 16, 4, 4), (68, 88, 0, 0), (144, 50, 88, 12), (211, 254, 0, 0), (311, 0, 0, (-1)), (339, 60, 1, 0), (403, 241, 2, 0), (409, 346, 3, 4), (467, 255, 1, 0), (560, 52, 88, 1)]
def J.cp50 : List (Nat × Nat × Nat × Int) := [(56, 16, 4, 4), (68, 88, 0, 0), (144, 50, 88, 12), (211, 58, 0, 0), (311, 0, 0, (-1)), (339, 60, 1, 0), (403, 241, 2, 0), (409, 346, 3, 4), (467, 256, 1, 0), (560, 52, 88, 1), (624, 51, 88, 1)]
def J.cp51 : List (Nat × Nat × Nat × Int) := [(56, 278, 5, 9), (144, 237, 55, 12), (210, 349, 2, 3), (211, 262, 2, 0), (304, 238, 55, 0), (368, 51, 88, 1), (439, 0, 0, (-1))]
def J.cp52 : List (Nat × Nat × Nat × Int) := [(56, 278, 5, 9), (144, 237, 55, 12), (210, 349, 2, 3), (211, 260, 2, 0), (304, 238, 55, 0), (371, 261, 2, 0), (416, 51, 88, 1), (487, 0, 0, (-1)), (512, 53, 88, 1)]
def J.cp53 : List (Nat × Nat × Nat × Int) := [(56, 278, 5, 9), (144, 237, 55, 12), (210, 349, 2, 3), (211, 258, 2, 0), (304, 238, 55, 0), (371, 259, 2, 0), (416, 51, 88, 1), (487, 0, 0, (-1))]
def J.cp54 : List (Nat × Nat × Nat × Int) := [(56, 278, 5, 9), (144, 239, 54, 12), (240, 211, 34, 12), (336, 212, 34, 0), (400, 237, 55, 12), (451, 263, 2, 0), (514, 349, 2, 3), (515, 264, 2, 0), (576, 238, 55, 0), (624, 51, 88, 1), (695, 0, 0, (-1)), (720, 53, 88, 1)]
def J.cp55 : List (Nat × Nat × Nat × Int) := [(56, 16, 4, 4), (144, 237, 55, 12), (240, 51, 88, 1), (306, 349, 2, 3), (368, 48, 88, 10), (432, 238, 55, 0), (483, 253, 2, 0), (535, 0, 0, (-1))]
def J.cp56 : List (Nat × Nat × Nat × Int) := [(56, 287, 1, 1), (144, 240, 56, 12), (240, 241, 56, 12), (291, 234, 2, 0)]
def J.cp57 : List (Nat × Nat × Nat × Int) := [(56, 287, 1, 1), (144, 242, 57, 10), (243, 234, 2, 0)]
def J.cp58 : List (Nat × Nat × Nat × Int) := [(56, 287, 1, 1), (144, 243, 58, 10), (240, 244, 58, 10), (291, 368, 2, 0), (386, 325, 3, 3), (387, 369, 3, 0)]
def J.cp59 : List (Nat × Nat × Nat × Int) := [(56, 287, 1, 1), (144, 249, 59, 0), (240, 245, 59, 10), (288, 246, 59, 10), (336, 247, 59, 12), (403, 212, 2, 0), (420, 32, 11, 0), (496, 192, 32, 10), (547, 231, 2, 0), (624, 194, 32, 12), (672, 248, 59, 2), (736, 32, 5, 12), (803, 58, 0, 0), (899, 60, 1, 0), (963, 233, 2, 0), (1024, 25, 7, 3), (1088, 24, 7, 3), (1139, 234, 2, 0), (1186, 324, 2, 7), (1187, 235, 2, 0), (1250, 325, 3, 3), (1251, 236, 3, 0)]
def J.cp60 : List (Nat × Nat × Nat × Int) := [(24, 2005, 1, 0), (116, 6, 10, 0), (152, 9, 1, 1), (160, 250, 60, 12)]
def J.cp61 : List (Nat × Nat × Nat × Int) := [(56, 2005, 1, 0), (148, 6, 10, 0), (184, 9, 1, 1), (192, 251, 61, 12), (288, 252, 61, 12), (352, 253, 61, 12), (419, 370, 0, 0), (483, 371, 5, 0), (579, 62, 1, 0), (640, 261, 62, 2), (691, 58, 0, 0), (755, 120, 0, 0), (800, 257, 62, 0), (864, 263, 62, 2), (928, 254, 61, 0), (976, 255, 61, 0), (1026, 22, 2, 2)]
def J.cp62 : List (Nat × Nat × Nat × Int) := [(56, 2005, 1, 0), (144, 256, 62, 0), (240, 257, 62, 0), (288, 258, 62, 0), (336, 259, 62, 0), (384, 260, 62, 0), (432, 261, 62, 2), (496, 262, 62, 0), (544, 263, 62, 2), (611, 372, 0, 0), (675, 123, 1, 0), (771, 373, 6, 0)]
def J.cp63 : List (Nat × Nat × Nat × Int) := [(24, 2005, 1, 0), (116, 95, 0, 219), (144, 268, 63, 2), (240, 264, 63, 13), (304, 265, 63, 10), (368, 266, 63, 10), (416, 267, 63, 12), (480, 269, 63, 0)]
def J.cp64 : List (Nat × Nat × Nat × Int) := [(24, 503, 5, 5), (112, 270, 95, 10), (176, 271, 95, 10), (227, 300, 2, 0)]
def J.cp65 : List (Nat × Nat × Nat × Int) := [(24, 503, 5, 5), (112, 270, 95, 10), (176, 271, 95, 10), (227, 303, 1, 0), (323, 300, 2, 0)]
def J.cp66 : List (Nat × Nat × Nat × Int) := [(24, 503, 5, 5), (112, 274, 66, 12), (208, 270, 95, 10), (272, 271, 95, 10), (323, 374, 3, 0)]
def J.cp67 : List (Nat × Nat × Nat × Int) := [(24, 503, 5, 5), (112, 275, 67, 12), (208, 270, 95, 10), (275, 303, 1, 0), (371, 304, 1, 0), (435, 139, 1, 0), (496, 271, 95, 10), (547, 141, 1, 0), (595, 293, 0, 0), (659, 146, 2, 0), (723, 300, 2, 0)]
def J.cp68 : List (Nat × Nat × Nat × Int) := [(56, 503, 5, 5), (144, 270, 95, 10), (211, 303, 1, 0), (304, 271, 95, 10), (355, 306, 2, 0), (416, 102, 19, 0), (467, 293, 0, 0)]
def J.cp69 : List (Nat × Nat × Nat × Int) := [(56, 503, 5, 5), (144, 273, 95, 10), (208, 271, 95, 10), (259, 303, 1, 0), (352, 272, 95, 10), (403, 304, 1, 0), (464, 102, 19, 0), (515, 293, 0, 0), (576, 270, 95, 10), (627, 308, 2, 0), (723, 300, 2, 0)]
def J.cp70 : List (Nat × Nat × Nat × Int) := [(56, 503, 5, 5), (144, 272, 95, 10), (208, 270, 95, 10), (259, 303, 1, 0), (352, 271, 95, 10), (403, 304, 1, 0), (464, 102, 19, 0), (515, 307, 2, 0), (611, 293, 0, 0)]
def J.cp71 : List (Nat × Nat × Nat × Int) := [(24, 503, 5, 5), (112, 270, 95, 10), (176, 101, 19, 0)]
def J.cp72 : List (Nat × Nat × Nat × Int) := [(24, 503, 5, 5), (112, 270, 95, 10), (179, 303, 1, 0), (275, 304, 1, 0), (339, 139, 1, 0), (400, 271, 95, 10), (448, 272, 95, 10), (496, 101, 19, 0)]
def J.cp73 : List (Nat × Nat × Nat × Int) := [(24, 503, 5, 5), (112, 270, 95, 10), (179, 375, 1, 0)]
def J.cp74 : List (Nat × Nat × Nat × Int) := [(24, 503, 5, 5), (112, 276, 74, 12), (208, 277, 74, 12), (275, 376, 3, 0)]
def J.cp75 : List (Nat × Nat × Nat × Int) := [(24, 503, 5, 5), (112, 270, 95, 10), (176, 99, 19, 0), (259, 300, 2, 0)]
def J.cp76 : List (Nat × Nat × Nat × Int) := [(56, 503, 5, 5), (144, 278, 76, 13), (240, 270, 95, 10), (307, 303, 1, 0), (403, 304, 1, 0), (464, 102, 19, 0), (515, 305, 1, 0), (578, 571, 2, 4), (675, 299, 1, 0)]
def J.cp77 : List (Nat × Nat × Nat × Int) := [(24, 503, 5, 5), (115, 377, 0, 0)]
def J.cp78 : List (Nat × Nat × Nat × Int) := [(24, 503, 5, 5), (115, 293, 0, 0)]
def J.cp79 : List (Nat × Nat × Nat × Int) := [(24, 2005, 1, 0), (116, 80, 52, 0), (152, 606, 1, 1), (160, 482, 79, 12), (260, 81, 34, 0), (296, 607, 1, 1), (304, 483, 79, 12), (372, 82, 49, 0), (408, 609, 1, 1), (416, 484, 79, 12), (484, 83, 36, 0), (520, 613, 1, 1), (528, 485, 79, 12), (596, 84, 66, 0), (632, 616, 1, 1), (640, 486, 79, 12), (704, 488, 79, 0), (768, 489, 79, 0), (816, 493, 79, 12), (880, 495, 79, 12), (928, 497, 79, 12), (976, 498, 79, 12), (1024, 499, 79, 12), (1072, 500, 79, 12), (1120, 501, 79, 12), (1168, 502, 79, 12), (1216, 503, 79, 12), (1264, 504, 79, 12), (1312, 505, 79, 12), (1360, 506, 79, 12), (1408, 507, 79, 12), (1456, 508, 79, 12), (1504, 509, 79, 12), (1552, 513, 79, 12), (1600, 514, 79, 12), (1648, 515, 79, 12), (1696, 516, 79, 12), (1744, 517, 79, 12), (1792, 518, 79, 12), (1840, 519, 79, 12), (1894, 0, 0, 63000), (1904, 520, 79, 12), (1952, 521, 79, 12), (2000, 522, 79, 12), (2048, 523, 79, 12), (2096, 524, 79, 12), (2144, 525, 79, 12), (2192, 526, 79, 12), (2240, 529, 79, 12), (2288, 530, 79, 12), (2336, 531, 79, 12), (2384, 532, 79, 12), (2432, 533, 79, 12), (2486, 0, 0, 160000), (2496, 535, 79, 12), (2544, 537, 79, 12), (2592, 539, 79, 12), (2640, 540, 79, 12), (2688, 546, 79, 12), (2736, 549, 79, 12), (2784, 552, 79, 12), (2848, 553, 79, 12), (2896, 481, 79, 0), (2947, 378, 5, 0), (3011, 379, 1, 0), (3072, 487, 79, 0), (3123, 393, 2, 0), (3187, 392, 5, 0), (3248, 492, 79, 0), (3299, 389, 2, 0), (3347, 391, 1, 0), (3395, 394, 1, 0), (3443, 385, 3, 0), (3507, 395, 0, 0), (3571, 397, 3, 0), (3635, 398, 1, 0), (3699, 399, 2, 0), (3744, 494, 79, 0), (3792, 496, 79, 0), (3843, 401, 2, 0), (3891, 402, 0, 0), (3939, 403, 1, 0), (3968, 510, 79, 0), (4019, 405, 2, 0), (4067, 388, 1, 0), (4115, 390, 1, 0), (4163, 396, 1, 0), (4211, 400, 1, 0), (4243, 404, 1, 0), (4288, 511, 79, 0), (4336, 512, 79, 0), (4384, 527, 79, 0), (4432, 528, 79, 0), (4483, 410, 2, 0), (4531, 414, 1, 0), (4579, 407, 3, 0), (4627, 416, 2, 0), (4675, 413, 1, 0), (4723, 415, 4, 0), (4787, 411, 1, 0), (4835, 412, 3, 0), (4883, 419, 2, 0), (4947, 421, 3, 0), (4995, 418, 2, 0), (5043, 417, 2, 0), (5091, 420, 2, 0), (5139, 422, 2, 0), (5187, 423, 3, 0), (5235, 408, 2, 0), (5283, 409, 2, 0), (5331, 382, 0, 0), (5379, 424, 2, 0), (5427, 425, 1, 0), (5443, 426, 3, 0), (5488, 548, 79, 0), (5539, 431, 2, 0), (5571, 429, 3, 0), (5619, 432, 2, 0), (5667, 433, 1, 0), (5715, 428, 1, 0), (5763, 430, 2, 0), (5811, 438, 1, 0), (5843, 437, 1, 0), (5907, 381, 0, 0), (5939, 434, 0, 0), (5987, 435, 1, 0), (6035, 436, 1, 0), (6083, 441, 2, 0), (6147, 442, 2, 0), (6195, 443, 0, 0), (6243, 440, 2, 0), (6291, 444, 0, 0), (6339, 449, 2, 0), (6387, 450, 1, 0), (6403, 453, 2, 0), (6419, 458, 1, 0), (6467, 452, 1, 0), (6515, 454, 2, 0), (6547, 455, 2, 0), (6595, 456, 1, 0), (6643, 457, 4, 0), (6707, 448, 1, 0), (6755, 451, 2, 0), (6803, 459, 2, 0), (6851, 460, 2, 0), (6883, 461, 2, 0), (6915, 447, 2, 0), (6963, 446, 0, 0), (6979, 462, 1, 0), (7027, 463, 1, 0), (7072, 536, 79, 0), (7120, 550, 79, 0), (7171, 475, 1, 0), (7216, 542, 79, 0), (7264, 543, 79, 0), (7312, 541, 79, 0), (7363, 465, 1, 0), (7411, 472, 3, 0), (7459, 474, 5, 0), (7507, 476, 1, 0), (7555, 473, 2, 0), (7603, 469, 2, 0), (7651, 470, 2, 0), (7667, 468, 1, 0), (7715, 471, 3, 0), (7779, 478, 0, 0), (7827, 488, 1, 0), (7875, 487, 2, 0), (7923, 483, 2, 0), (7971, 482, 3, 0), (8019, 484, 2, 0), (8067, 466, 1, 0), (8115, 467, 1, 0), (8163, 477, 1, 0), (8211, 479, 1, 0), (8259, 480, 1, 0), (8307, 481, 1, 0), (8355, 485, 1, 0), (8403, 486, 1, 0), (8451, 489, 1, 0), (8499, 490, 1, 0), (8544, 534, 79, 0), (8595, 492, 1, 0), (8611, 493, 3, 0), (8672, 538, 79, 0), (8723, 494, 6, 0), (8768, 490, 79, 3), (8832, 491, 79, 3), (8880, 325, 81, 0), (8896, 326, 81, 0), (8912, 331, 81, 0), (8928, 352, 82, 0), (8944, 425, 84, 0), (8960, 433, 84, 0), (9008, 424, 84, 0), (9056, 466, 84, 0), (9107, 387, 0, 0), (9171, 406, 1, 0), (9219, 427, 1, 0), (9267, 439, 2, 0), (9315, 445, 2, 0), (9363, 464, 2, 0), (9411, 380, 0, 0), (9459, 383, 0, 0), (9507, 384, 1, 0), (9539, 386, 0, 0), (9587, 491, 0, 0), (9635, 495, 1, 0), (9683, 496, 1, 0), (9731, 497, 1, 0), (9776, 547, 79, 0), (9827, 498, 3, 0), (9859, 499, 1, 0), (9907, 500, 1, 0), (9920, 551, 79, 0), (9971, 502, 1, 0), (10023, 0, 0, 9), (10055, 0, 0, 10), (10083, 505, 2, 0), (10128, 442, 84, 12), (10176, 443, 84, 12), (10227, 501, 3, 0), (10288, 445, 84, 12), (10336, 444, 84, 12), (10384, 461, 84, 12), (10435, 503, 1, 0), (10503, 0, 0, 1099511627776), (10531, 504, 3, 0)]
def J.cp80 : List (Nat × Nat × Nat × Int) := [(24, 2005, 1, 0), (112, 280, 80, 12), (208, 281, 80, 12), (256, 283, 80, 12), (304, 284, 80, 12), (352, 285, 80, 12), (400, 286, 80, 12), (448, 287, 80, 12), (496, 288, 80, 12), (544, 289, 80, 12), (592, 290, 80, 12), (640, 291, 80, 12), (688, 292, 80, 12), (736, 293, 80, 12), (784, 294, 80, 12), (832, 295, 80, 12), (880, 296, 80, 12), (928, 297, 80, 12), (976, 298, 80, 12), (1024, 299, 80, 12), (1072, 300, 80, 12), (1120, 306, 80, 0), (1184, 311, 80, 0), (1232, 312, 80, 12), (1280, 313, 80, 12), (1328, 314, 80, 12), (1376, 315, 80, 12), (1424, 317, 80, 12), (1472, 319, 80, 12), (1520, 279, 80, 0), (1571, 506, 2, 0), (1632, 282, 80, 0), (1682, 630, 1, 1), (1746, 631, 1, 1), (1792, 304, 80, 0), (1843, 508, 0, 0), (1888, 303, 80, 0), (1936, 301, 80, 0), (1986, 629, 1, 1), (2032, 302, 80, 0), (2083, 509, 1, 0), (2147, 510, 0, 0), (2195, 512, 0, 0), (2243, 513, 1, 0), (2295, 0, 0, 2147483648), (2327, 0, 0, 10), (2359, 0, 0, 48), (2384, 318, 80, 3), (2451, 511, 4, 0), (2515, 514, 1, 0), (2579, 515, 2, 0), (2624, 305, 80, 0), (2675, 519, 1, 0), (2723, 522, 1, 0), (2768, 307, 80, 0), (2819, 507, 0, 0), (2867, 517, 1, 0), (2912, 320, 80, 0), (2960, 321, 80, 0), (3011, 536, 3, 0), (3075, 537, 1, 0), (3123, 538, 1, 0), (3171, 545, 1, 0), (3219, 546, 1, 0), (3267, 548, 1, 0), (3315, 554, 1, 0), (3363, 555, 1, 0), (3411, 539, 2, 0), (3459, 540, 1, 0), (3507, 542, 0, 0), (3555, 544, 0, 0), (3603, 543, 2, 0), (3667, 521, 0, 0), (3731, 541, 1, 0), (3779, 526, 0, 0), (3843, 528, 0, 0), (3891, 518, 1, 0), (3955, 532, 1, 0), (4003, 547, 0, 0), (4050, 671, 1, 1), (4096, 309, 80, 0), (4147, 549, 1, 0), (4195, 550, 2, 0), (4243, 551, 1, 0), (4291, 553, 0, 0), (4339, 552, 3, 0), (4387, 556, 1, 0), (4432, 308, 80, 0), (4483, 524, 1, 0), (4531, 527, 0, 0), (4579, 525, 1, 0), (4627, 520, 4, 0), (4675, 531, 1, 0), (4727, 0, 0, 32481142915753332), (4755, 533, 2, 0), (4823, 0, 0, 470121477225), (4855, 0, 0, 121424872498548), (4883, 535, 1, 0), (4931, 523, 1, 0), (4979, 529, 1, 0), (5027, 530, 1, 0), (5075, 534, 1, 0), (5123, 516, 0, 0), (5168, 310, 80, 0), (5219, 557, 0, 0), (5264, 322, 80, 0), (5315, 558, 1, 0), (5363, 559, 1, 0), (5411, 560, 1, 0), (5459, 561, 2, 0), (5507, 562, 2, 0), (5559, 0, 0, 255), (5584, 316, 80, 0), (5635, 564, 1, 0), (5687, 0, 0, 9), (5719, 0, 0, 2108192), (5751, 0, 0, 2108704), (5783, 0, 0, 2107936), (5815, 0, 0, 539963168), (5847, 0, 0, 139274970144), (5879, 0, 0, 2112800), (5911, 0, 0, 542915872), (5943, 0, 0, 543781664), (5975, 0, 0, 2112544), (6007, 0, 0, 540884000), (6039, 0, 0, 2113056), (6071, 0, 0, 540949792), (6103, 0, 0, 138466180384), (6135, 0, 0, 138468408608), (6167, 0, 0, 11296), (6199, 0, 0, 2112288), (6227, 573, 1, 0), (6272, 323, 80, 0), (6323, 576, 2, 0), (6387, 571, 1, 0), (6435, 572, 1, 0), (6487, 0, 0, 539835936), (6514, 889, 1, 1), (6579, 563, 1, 0), (6643, 565, 1, 0), (6691, 574, 1, 0), (6743, 0, 0, 1953658213), (6775, 0, 0, 1717660012), (6807, 0, 0, 1852797984), (6835, 575, 2, 0), (6887, 0, 0, 40), (6919, 0, 0, 35378403556896), (6947, 567, 2, 0), (6999, 0, 0, 26990), (7031, 0, 0, 7304564), (7063, 0, 0, 6579572), (7091, 570, 1, 0), (7143, 0, 0, 540683552), (7175, 0, 0, 4192042512777504032), (7207, 0, 0, 4192042495479473184), (7239, 0, 0, 4192042482544174368), (7267, 566, 1, 0), (7315, 568, 1, 0), (7363, 569, 1, 0)]
def J.cp81 : List (Nat × Nat × Nat × Int) := [(24, 2005, 1, 0), (112, 325, 81, 0), (208, 327, 81, 12), (272, 328, 81, 12), (320, 329, 81, 12), (368, 330, 81, 12), (416, 332, 81, 12), (464, 333, 81, 12), (512, 334, 81, 12), (560, 337, 81, 12), (608, 338, 81, 12), (656, 339, 81, 12), (704, 340, 81, 12), (752, 341, 81, 12), (800, 342, 81, 12), (848, 343, 81, 12), (896, 344, 81, 12), (944, 347, 81, 0), (992, 348, 81, 0), (1040, 349, 81, 12), (1088, 350, 81, 12), (1139, 577, 0, 0), (1184, 324, 81, 0), (1232, 335, 81, 0), (1283, 579, 1, 0), (1346, 741, 1, 1), (1395, 578, 0, 0), (1456, 326, 81, 0), (1507, 580, 1, 0), (1555, 581, 3, 0), (1616, 331, 81, 0), (1664, 336, 81, 0), (1715, 583, 4, 0), (1779, 582, 1, 0), (1824, 345, 81, 3), (1888, 346, 81, 3), (1939, 590, 2, 0), (2003, 589, 2, 0), (2051, 586, 2, 0), (2115, 587, 2, 0), (2163, 588, 1, 0), (2227, 585, 1, 0), (2275, 584, 0, 0), (2323, 591, 1, 0)]
def J.cp82 : List (Nat × Nat × Nat × Int) := [(24, 2005, 1, 0), (112, 353, 82, 12), (208, 354, 82, 12), (256, 355, 82, 12), (304, 357, 82, 12), (352, 358, 82, 12), (400, 359, 82, 12), (448, 360, 82, 12), (496, 361, 82, 12), (544, 362, 82, 12), (592, 363, 82, 12), (640, 364, 82, 12), (688, 365, 82, 12), (736, 366, 82, 12), (784, 367, 82, 12), (832, 371, 82, 12), (880, 372, 82, 12), (944, 373, 82, 12), (992, 374, 82, 12), (1040, 375, 82, 12), (1088, 376, 82, 12), (1152, 377, 82, 12), (1200, 378, 82, 12), (1248, 379, 82, 12), (1296, 380, 82, 12), (1344, 381, 82, 12), (1392, 382, 82, 12), (1440, 383, 82, 12), (1488, 384, 82, 12), (1536, 385, 82, 12), (1584, 386, 82, 12), (1632, 387, 82, 12), (1680, 388, 82, 12), (1728, 392, 82, 0), (1795, 592, 0, 0), (1840, 351, 82, 0), (1888, 356, 82, 0), (1936, 368, 82, 0), (1984, 369, 82, 1), (2048, 370, 82, 1), (2099, 593, 2, 0), (2163, 594, 0, 0), (2208, 391, 82, 3), (2272, 352, 82, 0), (2322, 733, 1, 1), (2387, 596, 1, 0), (2435, 595, 1, 0), (2483, 597, 2, 0), (2547, 599, 2, 0), (2611, 602, 2, 0), (2675, 603, 3, 0), (2739, 604, 4, 0), (2803, 605, 2, 0), (2867, 606, 3, 0), (2915, 607, 2, 0), (2976, 390, 82, 0), (3027, 601, 1, 0), (3088, 389, 82, 0), (3139, 609, 2, 0), (3171, 611, 2, 0), (3219, 612, 2, 0), (3267, 613, 2, 0), (3315, 600, 2, 0), (3379, 610, 3, 0), (3447, 0, 0, (-1)), (3475, 598, 0, 0), (3523, 608, 0, 0), (3587, 614, 0, 0)]
def J.cp83 : List (Nat × Nat × Nat × Int) := [(24, 2005, 1, 0), (112, 395, 83, 12), (208, 396, 83, 12), (256, 397, 83, 12), (304, 398, 83, 12), (352, 399, 83, 12), (400, 400, 83, 12), (448, 401, 83, 12), (496, 402, 83, 12), (544, 403, 83, 12), (592, 404, 83, 12), (656, 407, 83, 12), (704, 408, 83, 12), (752, 409, 83, 12), (800, 410, 83, 12), (848, 411, 83, 12), (896, 412, 83, 12), (944, 413, 83, 12), (992, 414, 83, 12), (1040, 415, 83, 12), (1088, 416, 83, 12), (1136, 418, 83, 12), (1187, 615, 0, 0), (1232, 393, 83, 0), (1296, 394, 83, 0), (1344, 405, 83, 1), (1408, 406, 83, 0), (1459, 616, 2, 0), (1523, 618, 1, 0), (1587, 619, 0, 0), (1635, 617, 1, 0), (1682, 815, 1, 1), (1746, 814, 1, 1), (1794, 818, 2, 2), (1858, 825, 2, 3), (1907, 469, 2, 0), (1955, 625, 3, 0), (2016, 419, 83, 0), (2064, 417, 83, 0), (2112, 420, 83, 0), (2163, 621, 4, 0), (2227, 622, 1, 0), (2291, 633, 1, 0), (2339, 623, 1, 0), (2387, 634, 1, 0), (2435, 635, 2, 0), (2498, 826, 3, 4), (2563, 624, 3, 0), (2627, 626, 2, 0), (2675, 627, 1, 0), (2723, 628, 1, 0), (2771, 629, 1, 0), (2819, 630, 1, 0), (2867, 632, 2, 0), (2915, 631, 2, 0), (2976, 421, 83, 0), (3027, 620, 1, 0)]
def J.cp84 : List (Nat × Nat × Nat × Int) := [(24, 2005, 1, 0), (112, 423, 84, 12), (208, 426, 84, 12), (272, 427, 84, 12), (320, 428, 84, 12), (368, 429, 84, 12), (416, 430, 84, 12), (464, 431, 84, 12), (518, 0, 0, 120000), (528, 432, 84, 12), (576, 434, 84, 12), (624, 435, 84, 12), (672, 436, 84, 12), (720, 437, 84, 12), (768, 438, 84, 12), (816, 439, 84, 12), (864, 440, 84, 12), (912, 442, 84, 12), (960, 443, 84, 12), (1008, 444, 84, 12), (1056, 445, 84, 12), (1120, 449, 84, 12), (1168, 450, 84, 12), (1216, 451, 84, 12), (1264, 452, 84, 12), (1312, 453, 84, 12), (1360, 454, 84, 12), (1408, 455, 84, 12), (1456, 456, 84, 12), (1504, 457, 84, 12), (1552, 458, 84, 12), (1600, 459, 84, 12), (1648, 460, 84, 12), (1696, 461, 84, 12), (1750, 0, 0, 200000), (1760, 464, 84, 12), (1808, 465, 84, 12), (1856, 466, 84, 0), (1920, 475, 84, 12), (1968, 477, 84, 12), (2016, 478, 84, 12), (2064, 479, 84, 12), (2112, 422, 84, 0), (2160, 424, 84, 0), (2210, 858, 3, 3), (2275, 636, 0, 0), (2336, 425, 84, 0), (2387, 637, 2, 0), (2451, 639, 2, 0), (2498, 863, 1, 1), (2560, 433, 84, 0), (2611, 638, 7, 0), (2672, 469, 84, 0), (2720, 470, 84, 0), (2768, 448, 84, 0), (2819, 646, 1, 0), (2880, 462, 84, 0), (2931, 641, 0, 0), (2979, 642, 1, 0), (3043, 662, 1, 0), (3091, 663, 0, 0), (3136, 480, 84, 0), (3187, 664, 2, 0), (3248, 467, 84, 0), (3299, 665, 2, 0), (3347, 644, 0, 0), (3395, 645, 1, 0), (3447, 0, 0, 1099511627776), (3472, 463, 84, 0), (3523, 649, 3, 0), (3586, 908, 1, 2), (3648, 447, 84, 0), (3696, 474, 84, 0), (3744, 441, 84, 0), (3792, 446, 84, 0), (3843, 650, 1, 0), (3904, 471, 84, 0), (3955, 648, 2, 0), (4019, 652, 3, 0), (4083, 643, 0, 0), (4128, 473, 84, 0), (4179, 640, 3, 0), (4243, 661, 1, 0), (4288, 472, 84, 0), (4338, 914, 3, 3), (4387, 655, 2, 0), (4448, 468, 84, 0), (4499, 651, 1, 0), (4547, 653, 1, 0), (4595, 654, 1, 0), (4643, 656, 1, 0), (4691, 657, 1, 0), (4739, 658, 1, 0), (4787, 659, 1, 0), (4835, 660, 1, 0), (4883, 666, 0, 0), (4931, 647, 0, 0)]
def J.cp86 : List (Nat × Nat × Nat × Int) := [(56, 2005, 1, 0), (240, 7, 86, 2), (289, 0, 0, 3), (352, 8, 86, 4), (418, 6, 1, 1), (515, 144, 0, 0), (630, 0, 0, 2147483647), (643, 205, 0, 0), (1168, 9, 86, 3), (1264, 10, 86, 0), (1331, 201, 0, 0), (1603, 199, 1, 0), (1667, 200, 1, 0), (1730, 80, 2, 3), (1826, 21, 3, 4), (2002, 99, 5, 5), (2130, 82, 3, 3), (2194, 128, 3, 3), (2210, 26, 2, 2), (2306, 134, 2, 2), (2370, 126, 2, 2), (3058, 131, 1, 1), (3123, 206, 0, 0), (3154, 132, 3, 3), (3267, 202, 0, 0), (3331, 203, 2, 0), (3618, 88, 6, 7), (3922, 107, 1, 4), (3970, 108, 3, 7), (4018, 109, 4, 5), (6355, 204, 1, 0), (6387, 207, 3, 0)]
def J.cp87 : List (Nat × Nat × Nat × Int) := [(24, 11, 1, 1), (112, 21, 87, 0)]
def J.cp88 : List (Nat × Nat × Nat × Int) := [(56, 2005, 1, 0), (148, 6, 10, 0), (184, 9, 1, 1), (192, 50, 88, 12), (212, 88, 0, 0), (288, 47, 88, 10), (352, 48, 88, 10), (400, 49, 88, 10), (448, 54, 88, 2), (512, 41, 9, 0), (592, 42, 9, 3), (663, 0, 0, (-1)), (688, 53, 88, 1), (755, 248, 2, 0), (819, 60, 1, 0)]
def J.cp89 : List (Nat × Nat × Nat × Int) := [(56, 2005, 1, 0), (148, 6, 10, 0), (184, 9, 1, 1), (192, 64, 89, 12), (212, 89, 0, 0), (288, 62, 89, 10), (355, 60, 1, 0)]
def J.cp90 : List (Nat × Nat × Nat × Int) := []
def J.cp91 : List (Nat × Nat × Nat × Int) := [(24, 2005, 1, 0), (116, 91, 0, 212), (144, 187, 91, 2), (208, 185, 91, 10), (272, 186, 91, 10), (320, 188, 91, 0), (371, 340, 1, 0), (435, 132, 1, 0), (531, 191, 2, 0), (595, 188, 1, 0), (643, 339, 3, 0)]
def J.cp92 : List (Nat × Nat × Nat × Int) := [(56, 228, 2, 2), (68, 96, 0, 0), (148, 6, 10, 0), (184, 9, 1, 1), (224, 218, 92, 12), (320, 219, 92, 10), (387, 62, 1, 0), (451, 58, 0, 0), (515, 60, 1, 0), (579, 350, 1, 0), (643, 351, 2, 0), (707, 348, 3, 0), (784, 221, 96, 0), (835, 349, 1, 0), (899, 347, 2, 0), (963, 355, 2, 0), (1040, 222, 96, 0), (1091, 356, 3, 0), (1155, 314, 2, 0), (1203, 354, 4, 0), (1267, 353, 2, 0), (1299, 352, 1, 0)]
def J.cp93 : List (Nat × Nat × Nat × Int) := [(56, 228, 2, 2), (144, 225, 93, 10), (240, 226, 93, 10), (288, 224, 93, 12), (355, 357, 1, 0), (451, 348, 3, 0), (512, 221, 96, 0), (563, 358, 1, 0), (659, 359, 2, 0), (707, 360, 2, 0), (771, 363, 2, 0), (848, 222, 96, 0), (899, 361, 2, 0), (963, 362, 1, 0), (979, 318, 2, 0)]
def J.cp94 : List (Nat × Nat × Nat × Int) := [(56, 2005, 1, 0), (147, 222, 1, 0), (242, 325, 3, 3)]
def J.cp95 : List (Nat × Nat × Nat × Int) := [(24, 2005, 1, 0), (112, 270, 95, 10), (208, 271, 95, 10), (256, 272, 95, 10), (304, 273, 95, 10)]
def J.cp96 : List (Nat × Nat × Nat × Int) := [(24, 2005, 1, 0), (112, 220, 96, 10), (208, 221, 96, 0)]
def J.cp97 : List (Nat × Nat × Nat × Int) := [(116, 1, 33, 0), (152, 0, 1, 1), (164, 79, 80, 0), (200, 605, 1, 1), (211, 0, 5, 0), (275, 17, 5, 0), (291, 1, 1, 0), (355, 18, 1, 0), (371, 2, 0, 0), (435, 19, 0, 0), (451, 3, 1, 0), (499, 20, 1, 0), (515, 4, 1, 0), (563, 21, 1, 0), (579, 5, 2, 0), (643, 22, 2, 0), (659, 6, 2, 0), (707, 23, 2, 0), (723, 7, 3, 0), (787, 24, 3, 0), (803, 8, 2, 0), (851, 25, 2, 0), (867, 9, 3, 0), (915, 26, 3, 0), (931, 10, 2, 0), (979, 27, 2, 0), (995, 11, 1, 0), (1043, 28, 1, 0), (1059, 12, 2, 0), (1123, 29, 2, 0), (1139, 13, 1, 0), (1187, 30, 1, 0), (1203, 14, 1, 0), (1251, 31, 1, 0), (1267, 15, 1, 0), (1315, 32, 1, 0), (1331, 16, 1, 0), (1379, 33, 1, 0)]
def J.cp98 : List (Nat × Nat × Nat × Int) := [(178, 7, 1, 1), (326, 0, 0, 1073741823), (705, 6, 0, 3), (770, 90, 1, 1), (945, 7, 0, 0), (1009, 8, 0, 0), (1074, 133, 2, 2), (1138, 126, 2, 2), (1538, 89, 3, 3), (1778, 93, 3, 3), (1970, 125, 5, 7), (2018, 117, 3, 3), (2770, 101, 3, 3), (3858, 91, 3, 3), (6082, 83, 4, 5), (6290, 110, 3, 7), (6449, 9, 0, 2), (6513, 10, 0, 2), (6626, 134, 2, 2), (6706, 102, 3, 3)]
def J.cp99 : List (Nat × Nat × Nat × Int) := [(24, 2005, 1, 0)]
def J.cp100 : List (Nat × Nat × Nat × Int) := [(3106, 22, 2, 2), (3206, 0, 0, 2147483639), (3218, 23, 2, 3)]
def J.cp102 : List (Nat × Nat × Nat × Int) := [(36, 85, 0, 214), (210, 84, 3, 3), (692, 21, 13, 0), (724, 4, 11, 0), (760, 4, 1, 1), (773, 1057, 1, 0), (803, 188, 1, 0), (867, 138, 1, 0), (917, 1058, 1, 0), (949, 1059, 1, 0), (979, 163, 0, 0), (1048, 120, 2, 2), (1379, 9001, 0, 0), (1764, 214, 0, 0), (1765, 900, 1, 0), (2402, 2000, 5, 0), (4802, 25, 3, 4), (4866, 26, 2, 2), (4963, 9004, 0, 0), (4980, 204, 0, 0), (5397, 1060, 1, 0), (5426, 118, 3, 5), (5490, 119, 2, 2)]
def J.cp104 : List (Nat × Nat × Nat × Int) := [(112, 556, 104, 10)]
def J.cp105 : List (Nat × Nat × Nat × Int) := [(305, 2, 0, 2), (371, 9002, 0, 0), (388, 215, 0, 0)]
def J.cp106 : List (Nat × Nat × Nat × Int) := [(1682, 32, 3, 3)]
def J.cp108 : List (Nat × Nat × Nat × Int) := []
def J.cp109 : List (Nat × Nat × Nat × Int) := [(146, 134, 2, 2), (3778, 83, 4, 5), (3842, 100, 5, 6)]
def J.cp111 : List (Nat × Nat × Nat × Int) := [(1329, 9, 0, 2), (1393, 10, 0, 2), (4230, 0, 0, 65536)]
def J.cp112 : List (Nat × Nat × Nat × Int) := [(4978, 369, 1, 2)]
def J.cp : List (List (Nat × Nat × Nat × Int)) := [[], J.cp1, J.cp2, J.cp3, J.cp4, J.cp5, J.cp6, J.cp7, J.cp8, J.cp9, J.cp10, J.cp11, J.cp12, J.cp13, J.cp14, J.cp15, J.cp16, J.cp17, J.cp18, J.cp19, J.cp20, J.cp21, J.cp22, J.cp23, J.cp24, J.cp25, J.cp26, J.cp27, J.cp28, J.cp29, J.cp30, J.cp31, J.cp32, J.cp33, J.cp34, J.cp35, J.cp36, J.cp37, J.cp38, J.cp39, J.cp40, J.cp41, J.cp42, J.cp43, J.cp44, J.cp45, J.cp46, J.cp47, J.cp48, J.cp49, J.cp50, J.cp51, J.cp52, J.cp53, J.cp54, J.cp55, J.cp56, J.cp57, J.cp58, J.cp59, J.cp60, J.cp61, J.cp62, J.cp63, J.cp64, J.cp65, J.cp66, J.cp67, J.cp68, J.cp69, J.cp70, J.cp71, J.cp72, J.cp73, J.cp74, J.cp75, J.cp76, J.cp77, J.cp78, J.cp79, J.cp80, J.cp81, J.cp82, J.cp83, J.cp84, [], J.cp86, J.cp87, J.cp88, J.cp89, J.cp90, J.cp91, J.cp92, J.cp93, J.cp94, J.cp95, J.cp96, J.cp97, J.cp98, J.cp99, J.cp100, [], J.cp102, [], J.cp104, J.cp105, J.cp106, [], J.cp108, J.cp109, [], J.cp111, J.cp112]
/-- superclass numbers -/
def J.spL : List Nat := [0, 85, 85, 85, 86, 85, 87, 85, 85, 85, 88, 85, 89, 89, 89, 89, 89, 16, 85, 85, 85, 90, 85, 85, 85, 85, 91, 91, 91, 91, 91, 91, 85, 85, 85, 85, 92, 93, 92, 93, 93, 93, 93, 92, 93, 93, 92, 93, 88, 88, 88, 55, 55, 55, 55, 88, 94, 94, 94, 94, 85, 85, 85, 85, 95, 95, 95, 95, 95, 95, 95, 95, 95, 95, 95, 95, 95, 95, 95, 85, 85, 85, 85, 85, 85, 0, 85, 99, 85, 85, 108, 85, 96, 96, 85, 85, 85, 0, 0, 85, 0, 0, 0, 0, 85, 104, 0, 0, 22, 0, 0, 0, 0]
def J.sp (c : Nat) : Nat := if c = 321 then 23 else if c = 301 then 201 else if c = 304 then 204 else if c = 311 then 214 else if c = 312 then 215 else if c = 322 then 105 else J.spL.getD c 0
def J.sel0 : List (List (Nat × Nat × Nat)) := [[(1, 52, 6)], [(1, 54, 2)], [(1, 56, 2)], [(1, 519, 2)], [(1, 520, 2)], [(1, 521, 4)], [(1, 523, 4)], [(1, 524, 5)], [(1, 525, 3)], [(1, 526, 4)], [(1, 528, 3)], [(1, 529, 4)], [(1, 552, 3)], [(1, 556, 2)], [(1, 597, 2)], [(1, 599, 4)], [(1, 604, 2)], [(79, 617, 6)], [(79, 620, 2)], [(79, 622, 2)], [(79, 864, 2)], [(79, 865, 2)], [(79, 866, 3)], [(79, 868, 3)], [(79, 869, 4)], [(79, 870, 3)], [(79, 871, 5)], [(79, 872, 3)], [(79, 873, 4)], [(79, 891, 4)], [(79, 896, 2)], [(79, 924, 2)], [(79, 926, 6)], [(79, 932, 2)], [(1, 46, 2)], [(6, 43, 4)], [(5, 47, 2)], [(8, 48, 1)], [(11, 50, 2)], [(2, 53, 7)], [(2, 55, 3)], [(2, 57, 3)], [(2, 185, 2)], [(1, 186, 5)], [(1, 187, 2)], [(2, 188, 2)], [(2, 189, 4)], [(1, 192, 3)], [(1, 193, 2)], [(2, 194, 3)]]
def J.sel1 : List (List (Nat × Nat × Nat)) := [[(1, 199, 2)], [(1, 200, 4)], [(5, 201, 1)], [(1, 202, 7)], [(2, 203, 5)], [(5, 206, 2)], [(5, 207, 4)], [(1, 213, 6)], [(6, 34, 1)], [(1, 214, 5)], [(6, 30, 2)], [(5, 215, 2)], [(6, 17, 2)], [(8, 217, 2)], [(1, 220, 7)], [(8, 221, 4)], [(1, 222, 2)], [(1, 223, 4)], [(35, 225, 5)], [(35, 237, 1)], [(2, 235, 4)], [(35, 238, 4)], [(36, 232, 2)], [(35, 242, 2)], [(35, 243, 2)], [(35, 244, 2)], [(35, 248, 6)], [(35, 249, 8)], [(35, 252, 7)], [(35, 254, 4)], [(35, 255, 2)], [(35, 257, 8)], [(38, 232, 2), (43, 232, 2), (36, 232, 2), (46, 232, 2)], [(35, 261, 7)], [(36, 263, 5)], [(1, 283, 5)], [(5, 284, 3)], [(36, 289, 4)], [(5, 305, 5)], [(5, 328, 2)], [(1, 329, 4)], [(36, 331, 5)], [(5, 337, 2)], [(1, 338, 5)], [(1, 339, 4)], [(8, 49, 1)], [(33, 340, 3)], [(8, 341, 3)], [(8, 342, 3)], [(8, 343, 6)]]
def J.sel2 : List (List (Nat × Nat × Nat)) := [[(8, 370, 1)], [(36, 371, 5)], [(1, 373, 11)], [(1, 374, 4)], [(36, 375, 5)], [(11, 421, 3)], [(11, 452, 4)], [(1, 453, 6)], [(36, 455, 4)], [(11, 467, 3)], [(1, 468, 4)], [(11, 469, 4)], [(1, 474, 4)], [(61, 459, 7)], [(45, 456, 9), (38, 465, 3), (47, 475, 5), (42, 480, 5), (41, 482, 7), (43, 483, 5), (40, 484, 5), (37, 485, 3), (36, 455, 4), (39, 486, 6), (44, 487, 5), (46, 488, 8)], [(61, 457, 2)], [(61, 458, 1)], [(1, 479, 4)], [(61, 464, 2)], [(62, 489, 2)], [(61, 481, 1)], [(61, 490, 3)], [(1, 491, 6)], [(18, 492, 2)], [(18, 493, 6)], [(62, 498, 4)], [(1, 522, 2)], [(5, 334, 4)], [(62, 527, 2)], [(2, 530, 3)], [(4, 76, 2)], [(2, 549, 2)], [(4, 129, 2)], [(18, 553, 5)], [(18, 557, 2)], [(18, 598, 2)], [(4, 115, 1)], [(1, 600, 10)], [(4, 105, 2)], [(19, 593, 3)], [(5, 601, 6)], [(19, 588, 3)], [(1, 602, 3)], [(1, 603, 3)], [(23, 94, 1), (321, 94, 1)], [(23, 195, 2), (321, 195, 2)], [(19, 589, 4)], [(4, 550, 2)], [(20, 60, 4)], [(23, 142, 3), (321, 142, 3)]]
def J.sel3 : List (List (Nat × Nat × Nat)) := [[(2, 190, 2)], [(24, 191, 1)], [(24, 204, 5)], [(28, 178, 1), (31, 178, 1), (27, 178, 1), (26, 177, 1), (29, 178, 1), (30, 178, 1)], [(24, 531, 4)], [(3, 183, 3)], [(3, 59, 1)], [(20, 61, 2)], [(20, 62, 3)], [(20, 63, 2)], [(20, 64, 4)], [(20, 67, 4)], [(20, 70, 3)], [(4, 111, 1)], [(20, 135, 4)], [(20, 136, 2)], [(20, 137, 5)], [(20, 138, 5)], [(20, 139, 2)], [(20, 140, 1)], [(20, 141, 2)], [(20, 146, 2)], [(20, 147, 1)], [(20, 149, 2)], [(3, 150, 3)], [(20, 151, 3)], [(25, 152, 4)], [(20, 153, 3)], [(20, 154, 2)], [(20, 155, 5)], [(20, 156, 2)], [(20, 160, 1)], [(20, 162, 2)], [(20, 163, 3)], [(28, 164, 4), (31, 164, 4), (27, 164, 4), (26, 164, 4), (29, 164, 4), (30, 164, 4)], [(20, 170, 7)], [(20, 173, 2)], [(20, 176, 1)], [(4, 85, 2)], [(26, 533, 5)], [(24, 205, 2)], [(28, 532, 3), (31, 543, 3), (27, 544, 3), (26, 545, 3), (29, 546, 3), (30, 547, 3)], [(24, 548, 6)], [], [], [], [(4, 115, 1)], [], [], [(4, 78, 3)]]
def J.sel4 : List (List (Nat × Nat × Nat)) := [[(4, 79, 6)], [(4, 81, 1)], [(4, 87, 3)], [(4, 96, 3)], [(4, 97, 2)], [(23, 95, 1), (321, 95, 1)], [(4, 98, 2)], [(23, 104, 4), (321, 104, 4)], [(4, 114, 1)], [(23, 196, 1), (321, 196, 1)], [(5, 208, 5)], [(5, 210, 6)], [(32, 211, 3)], [(5, 285, 1)], [(5, 288, 2)], [(7, 306, 2)], [(56, 308, 1), (59, 307, 1), (57, 308, 1), (58, 308, 1)], [(5, 309, 3)], [(56, 310, 4), (59, 315, 7), (57, 317, 3), (58, 318, 3)], [(5, 320, 3)], [(5, 321, 3)], [(56, 322, 2), (59, 323, 2), (57, 326, 2), (58, 327, 2)], [(7, 313, 2)], [(6, 18, 4)], [(6, 19, 1)], [(6, 20, 4)], [(6, 33, 2)], [(6, 361, 2)], [(6, 362, 6)], [(1, 364, 2), (45, 364, 2), (38, 364, 2), (61, 364, 2), (47, 364, 2), (11, 364, 2), (16, 364, 2), (13, 364, 2), (14, 364, 2), (12, 364, 2), (60, 364, 2), (17, 364, 2), (15, 364, 2), (42, 364, 2), (41, 364, 2), (35, 364, 2), (8, 364, 2), (55, 364, 2), (54, 364, 2), (48, 364, 2), (52, 364, 2), (53, 364, 2), (49, 364, 2), (34, 364, 2), (10, 364, 2), (51, 364, 2), (50, 364, 2), (9, 364, 2), (5, 364, 2), (56, 364, 2), (32, 364, 2), (59, 364, 2), (7, 364, 2), (57, 364, 2), (58, 364, 2), (62, 364, 2), (2, 364, 2), (3, 364, 2), (28, 364, 2), (31, 364, 2), (24, 364, 2), (27, 364, 2), (25, 364, 2), (26, 364, 2), (20, 364, 2), (29, 364, 2), (30, 364, 2), (43, 364, 2), (40, 364, 2), (37, 364, 2), (33, 364, 2), (18, 364, 2), (74, 364, 2), (70, 364, 2), (76, 364, 2), (77, 364, 2), (78, 364, 2), (71, 364, 2), (64, 364, 2), (19, 364, 2), (66, 364, 2), (75, 364, 2), (65, 364, 2), (63, 364, 2), (68, 364, 2), (69, 364, 2), (67, 364, 2), (73, 364, 2), (72, 364, 2), (36, 364, 2), (39, 364, 2), (44, 364, 2), (46, 364, 2), (79, 364, 2), (83, 364, 2), (82, 364, 2), (81, 364, 2), (80, 364, 2), (84, 364, 2), (21, 364, 2), (23, 142, 3), (4, 364, 2)], [(6, 450, 4)], [(7, 312, 3)], [(7, 314, 3)], [(59, 316, 5)], [(7, 311, 3)], [], [], [(55, 271, 1), (54, 271, 1), (48, 267, 1), (52, 271, 1), (53, 271, 1), (49, 268, 1), (10, 269, 1), (51, 271, 1), (50, 270, 1)], [(8, 272, 4)], [(8, 273, 6)], [(9, 344, 5)], [(55, 346, 4), (54, 346, 4), (48, 346, 4), (52, 346, 4), (53, 346, 4), (49, 346, 4), (10, 346, 4), (51, 346, 4), (50, 346, 4)], [(8, 378, 2)], [(55, 380, 2), (54, 380, 2), (48, 380, 2), (52, 380, 2), (53, 380, 2), (49, 380, 2), (10, 379, 2), (51, 380, 2), (50, 380, 2)], [(55, 384, 1), (54, 384, 1), (48, 385, 1), (52, 384, 1), (53, 384, 1), (49, 385, 1), (10, 385, 1), (51, 384, 1), (50, 385, 1)], [(55, 386, 1), (54, 386, 1), (48, 387, 1), (52, 386, 1), (53, 386, 1), (49, 387, 1), (10, 387, 1), (51, 386, 1), (50, 387, 1)], [(55, 388, 2), (54, 388, 2), (48, 389, 2), (52, 388, 2), (53, 388, 2), (49, 389, 2), (10, 389, 2), (51, 388, 2), (50, 389, 2)], [(55, 408, 2), (54, 406, 4), (48, 408, 2), (52, 407, 4), (53, 408, 2), (49, 408, 2), (10, 408, 2), (51, 408, 2), (50, 408, 2)], [(55, 347, 4), (54, 350, 7), (48, 352, 11), (52, 355, 5), (53, 356, 4), (49, 357, 6), (10, 358, 8), (51, 366, 6), (50, 367, 15)], [(10, 359, 8)]]
def J.sel5 : List (List (Nat × Nat × Nat)) := [[(6, 360, 2)], [(10, 365, 2)], [(10, 353, 2)], [(55, 348, 6), (54, 348, 6), (52, 348, 6), (53, 348, 6), (51, 348, 6)], [(6, 354, 1)], [(49, 353, 2)], [(50, 353, 2)], [(48, 353, 2)], [], [(53, 348, 6)], [], [(52, 348, 6)], [], [(54, 351, 3)], [], [(1, 2001, 0), (45, 2001, 0), (38, 2001, 0), (61, 2001, 0), (47, 2001, 0), (11, 2001, 0), (16, 2001, 0), (13, 2001, 0), (14, 2001, 0), (12, 2001, 0), (60, 2001, 0), (17, 2001, 0), (15, 2001, 0), (42, 2001, 0), (41, 2001, 0), (35, 2001, 0), (8, 2001, 0), (55, 2001, 0), (54, 2001, 0), (48, 2001, 0), (52, 2001, 0), (53, 2001, 0), (49, 2001, 0), (34, 2001, 0), (10, 2001, 0), (51, 2001, 0), (50, 2001, 0), (9, 2001, 0), (5, 2001, 0), (56, 2001, 0), (32, 2001, 0), (59, 2001, 0), (7, 2001, 0), (57, 2001, 0), (58, 2001, 0), (62, 2001, 0), (2, 2001, 0), (3, 2001, 0), (28, 2001, 0), (31, 2001, 0), (24, 2001, 0), (27, 2001, 0), (25, 2001, 0), (26, 2001, 0), (20, 2001, 0), (29, 2001, 0), (30, 2001, 0), (43, 2001, 0), (40, 2001, 0), (37, 2001, 0), (33, 2001, 0), (18, 2001, 0), (74, 2001, 0), (70, 2001, 0), (76, 2001, 0), (77, 2001, 0), (78, 2001, 0), (71, 2001, 0), (64, 2001, 0), (19, 2001, 0), (66, 2001, 0), (75, 2001, 0), (65, 2001, 0), (63, 2001, 0), (68, 2001, 0), (69, 2001, 0), (67, 2001, 0), (73, 2001, 0), (72, 2001, 0), (36, 2001, 0), (39, 2001, 0), (44, 2001, 0), (46, 2001, 0), (79, 2001, 0), (83, 2001, 0), (82, 2001, 0), (81, 2001, 0), (80, 2001, 0), (84, 2001, 0), (21, 2001, 0), (23, 2001, 0), (4, 2001, 0), (6, 2001, 0)], [], [(11, 29, 5)], [(11, 51, 1)], [(11, 396, 3)], [(11, 397, 2)], [(16, 398, 1), (13, 401, 1), (14, 399, 1), (12, 401, 1), (17, 398, 1), (15, 400, 1)], [(16, 402, 4), (17, 402, 4)], [(11, 403, 3)], [(17, 415, 6)], [(16, 423, 2), (13, 424, 2), (14, 442, 3), (12, 443, 5), (17, 444, 2), (15, 445, 5)], [(16, 429, 1), (13, 435, 1), (14, 435, 1), (12, 430, 2), (17, 429, 1), (15, 435, 1)], [(16, 436, 2), (13, 437, 2), (14, 437, 2), (12, 437, 2), (17, 436, 2), (15, 437, 2)], [(16, 431, 1), (13, 432, 1), (14, 432, 1), (12, 432, 1), (17, 431, 1), (15, 432, 1)], [(16, 438, 2), (17, 438, 2)], [(6, 449, 4)], [], [(16, 470, 2), (13, 472, 2), (14, 472, 2), (12, 472, 2), (17, 471, 2), (15, 472, 2)], [], [(16, 434, 1), (17, 433, 1)], [(17, 402, 4)], [], [(18, 494, 3)], [(18, 501, 11)], [(63, 518, 4)], [(19, 554, 6)], [(19, 558, 3)], [(19, 555, 5)], [(19, 559, 2)], [(19, 560, 2)], [(19, 561, 2)], [(19, 562, 2)], [(74, 563, 2), (70, 565, 6), (76, 569, 4), (77, 574, 2), (78, 579, 2), (71, 580, 2), (64, 581, 2), (66, 582, 2), (75, 584, 2), (65, 585, 2), (68, 586, 3), (69, 590, 6), (67, 592, 5), (73, 594, 2), (72, 596, 4)], [(19, 573, 2)], [(19, 572, 2)]]
def J.sel6 : List (List (Nat × Nat × Nat)) := [[(19, 576, 4)], [(19, 577, 4)], [(19, 578, 4)], [(19, 566, 2)], [(19, 567, 3)], [(19, 570, 3)], [(19, 587, 12)], [(70, 568, 5)], [(69, 591, 3)], [(35, 229, 2)], [(38, 232, 2)], [(35, 234, 6)], [(35, 239, 2)], [(43, 232, 2)], [(38, 376, 6), (43, 376, 6), (36, 376, 6), (46, 376, 6)], [(45, 382, 2)], [(45, 390, 5)], [(45, 404, 5)], [(8, 405, 4)], [(61, 463, 3)], [(40, 292, 6)], [(40, 382, 2)], [(40, 390, 5)], [(11, 414, 7)], [(44, 292, 6)], [(44, 382, 2)], [(44, 390, 5)], [(5, 296, 3)], [(39, 382, 2)], [(39, 390, 5)], [(5, 299, 4)], [(5, 333, 3)], [(5, 335, 5)], [(41, 382, 2)], [(41, 390, 5)], [(41, 391, 7)], [(41, 404, 5)], [(21, 72, 1)], [], [(28, 534, 4), (31, 534, 4), (27, 534, 4), (26, 534, 4), (29, 534, 4), (30, 534, 4)], [(28, 535, 4), (31, 537, 2), (27, 539, 2), (26, 542, 2), (29, 540, 2), (30, 541, 2)], [(28, 533, 5)], [(28, 536, 1)], [(27, 534, 4)], [(29, 533, 5)], [(31, 533, 5)], [(30, 534, 4)], [(45, 264, 7), (38, 282, 3), (47, 264, 7), (42, 264, 7), (41, 264, 7), (43, 282, 3), (40, 264, 7), (37, 264, 7), (36, 282, 3), (39, 264, 7), (44, 264, 7), (46, 282, 3)], [(8, 266, 9)], [(38, 263, 5), (43, 263, 5), (36, 263, 5), (46, 263, 5)]]
def J.sel7 : List (List (Nat × Nat × Nat)) := [[(45, 290, 6), (38, 289, 4), (47, 291, 2), (42, 295, 2), (41, 298, 3), (43, 289, 4), (40, 301, 2), (37, 302, 2), (36, 289, 4), (39, 303, 2), (44, 304, 2), (46, 289, 4)], [(45, 336, 3), (38, 331, 5), (47, 336, 3), (42, 336, 3), (41, 332, 4), (43, 331, 5), (40, 336, 3), (37, 336, 3), (36, 331, 5), (39, 336, 3), (44, 336, 3), (46, 331, 5)], [(45, 372, 2), (38, 371, 5), (47, 372, 2), (42, 372, 2), (41, 372, 2), (43, 371, 5), (40, 372, 2), (37, 372, 2), (36, 371, 5), (39, 372, 2), (44, 372, 2), (46, 371, 5)], [(8, 377, 4)], [(45, 381, 5), (38, 409, 5), (47, 411, 5), (42, 412, 5), (41, 413, 5), (43, 409, 5), (40, 416, 5), (37, 417, 5), (36, 409, 5), (39, 418, 5), (44, 419, 5), (46, 409, 5)], [(11, 410, 3)], [(38, 375, 5), (43, 375, 5), (36, 375, 5), (46, 375, 5)], [(8, 265, 2)], [(5, 293, 2)], [(8, 383, 4)], [(45, 391, 7), (47, 391, 7), (42, 391, 7), (41, 391, 7), (40, 391, 7), (37, 391, 7), (39, 391, 7), (44, 391, 7)], [(8, 392, 4)], [(11, 393, 2)], [(11, 395, 5)], [(37, 390, 5)], [(42, 390, 5)], [(47, 292, 6)], [(47, 390, 5)], [(7, 319, 5)], [], [(1, 460, 1)], [(62, 462, 6)], [(62, 499, 1)], [(18, 500, 9)], [(19, 583, 6)], [(19, 595, 2)], [(19, 564, 7)], [(19, 575, 7)], [(80, 618, 6)], [(80, 621, 3)], [(79, 623, 1)], [(81, 624, 1)], [(82, 625, 1)], [(80, 626, 2)], [(80, 684, 2)], [(79, 685, 4)], [(79, 686, 3)], [(79, 687, 4)], [(80, 688, 2)], [(80, 689, 4)], [(79, 691, 3)], [(79, 692, 3)], [(79, 693, 7)], [(80, 694, 3)], [(79, 695, 2)], [(81, 696, 1)], [(79, 697, 9)], [(80, 698, 6)], [(81, 700, 2)], [(81, 701, 6)]]
def J.sel8 : List (List (Nat × Nat × Nat)) := [[(79, 706, 6)], [(79, 707, 4)], [(81, 708, 4)], [(82, 709, 2)], [(79, 710, 7)], [(82, 711, 4)], [(79, 712, 7)], [(79, 713, 5)], [(79, 714, 3)], [(79, 715, 7)], [(80, 716, 4)], [(79, 718, 2)], [(79, 719, 11)], [(79, 720, 3)], [(79, 721, 2)], [(79, 722, 6)], [(79, 723, 3)], [(79, 724, 5)], [(79, 725, 7)], [(79, 726, 7)], [(79, 727, 9)], [(79, 728, 7)], [(79, 729, 9)], [(79, 730, 8)], [(79, 731, 5)], [(82, 732, 2)], [(82, 734, 6)], [(79, 738, 6)], [(81, 739, 3)], [(79, 743, 4)], [(79, 744, 5)], [(81, 745, 4)], [(81, 746, 4)], [(81, 747, 2)], [(81, 748, 2)], [(81, 757, 2)], [(81, 758, 2)], [(79, 759, 3)], [(81, 760, 2)], [(79, 761, 4)], [(79, 762, 4)], [(82, 763, 3)], [(82, 764, 3)], [(82, 765, 3)], [(82, 783, 1)], [(79, 784, 5)], [(83, 785, 1)], [(79, 786, 5)], [(79, 787, 4)], [(82, 788, 3)]]
def J.sel9 : List (List (Nat × Nat × Nat)) := [[(83, 789, 2)], [(79, 790, 4)], [(79, 791, 2)], [(82, 792, 3)], [(83, 793, 4)], [(81, 797, 3)], [(81, 798, 4)], [(83, 799, 7)], [(79, 800, 3)], [(82, 801, 3)], [(83, 802, 3)], [(82, 803, 5)], [(83, 804, 3)], [(83, 827, 2)], [(79, 828, 7)], [(79, 829, 2)], [(79, 830, 4)], [(79, 831, 9)], [(83, 832, 2)], [(83, 811, 5)], [(83, 833, 5)], [(79, 834, 8)], [(79, 835, 4)], [(79, 836, 4)], [(79, 837, 7)], [(79, 838, 2)], [(79, 839, 2)], [(79, 840, 4)], [(79, 841, 1)], [(79, 842, 7)], [(79, 843, 5)], [(79, 844, 5)], [(79, 845, 4)], [(79, 846, 3)], [(79, 847, 5)], [(79, 848, 4)], [(79, 849, 4)], [(79, 850, 7)], [(79, 851, 3)], [(79, 852, 5)], [(79, 853, 7)], [(79, 854, 5)], [(84, 855, 2)], [(84, 856, 8)], [(84, 860, 10)], [(79, 867, 2)], [(80, 874, 3)], [(80, 890, 2)], [(84, 892, 7)], [(84, 897, 3)]]
def J.sel10 : List (List (Nat × Nat × Nat)) := [[(84, 925, 2)], [(79, 927, 5)], [(79, 928, 2)], [(79, 929, 7)], [(79, 930, 9)], [(81, 931, 5)], [(80, 619, 4)], [(80, 627, 2)], [(80, 628, 3)], [(80, 632, 2)], [(80, 633, 2)], [(80, 634, 6)], [(80, 635, 3)], [(80, 636, 4)], [(80, 637, 2)], [(80, 638, 3)], [(80, 639, 3)], [(80, 640, 2)], [(80, 641, 2)], [(80, 642, 2)], [(80, 643, 5)], [(80, 644, 3)], [(80, 645, 3)], [(80, 646, 5)], [(80, 647, 2)], [(80, 648, 3)], [(80, 649, 1)], [(80, 650, 2)], [(80, 651, 1)], [(80, 652, 3)], [(80, 653, 2)], [(80, 654, 4)], [(80, 655, 2)], [(80, 656, 7)], [(80, 657, 4)], [(80, 658, 2)], [(80, 659, 5)], [(80, 660, 2)], [(80, 661, 4)], [(80, 662, 3)], [(80, 663, 2)], [(80, 664, 2)], [(80, 665, 3)], [(80, 666, 4)], [(80, 667, 2)], [(80, 668, 2)], [(80, 669, 3)], [(80, 670, 1)], [(80, 672, 2)], [(80, 673, 3)]]
def J.sel11 : List (List (Nat × Nat × Nat)) := [[(80, 674, 3)], [(80, 675, 3)], [(80, 676, 4)], [(80, 677, 1)], [(80, 678, 3)], [(80, 679, 3)], [(80, 680, 3)], [(80, 681, 3)], [(80, 682, 7)], [(80, 683, 2)], [(80, 690, 2)], [(80, 699, 5)], [(80, 717, 5)], [(80, 875, 5)], [(80, 876, 2)], [(80, 877, 3)], [(80, 878, 4)], [(80, 879, 4)], [(80, 880, 3)], [(80, 881, 3)], [(80, 882, 3)], [(80, 883, 2)], [(80, 884, 7)], [(80, 885, 2)], [(80, 886, 6)], [(80, 887, 4)], [(80, 888, 7)], [(81, 608, 2)], [(81, 702, 2)], [(81, 703, 2)], [(81, 704, 3)], [(81, 705, 5)], [(81, 740, 3)], [(81, 742, 7)], [(81, 749, 2)], [(81, 750, 3)], [(81, 751, 4)], [(81, 752, 8)], [(81, 753, 5)], [(81, 754, 4)], [(81, 755, 4)], [(81, 756, 4)], [(82, 610, 1)], [(82, 611, 5)], [(82, 612, 1)], [(82, 735, 2)], [(82, 736, 2)], [(82, 737, 3)], [(82, 766, 6)], [(82, 767, 6)]]
def J.sel12 : List (List (Nat × Nat × Nat)) := [[(82, 768, 4)], [(82, 769, 6)], [(82, 770, 4)], [(82, 771, 5)], [(82, 772, 8)], [(82, 773, 5)], [(82, 774, 10)], [(82, 775, 9)], [(82, 776, 3)], [(82, 777, 4)], [(82, 778, 5)], [(82, 779, 6)], [(82, 780, 4)], [(82, 781, 10)], [(82, 782, 2)], [(83, 614, 1)], [(83, 615, 4)], [(83, 794, 2)], [(83, 795, 2)], [(83, 796, 1)], [(83, 805, 3)], [(83, 806, 6)], [(83, 807, 2)], [(83, 808, 2)], [(83, 809, 6)], [(83, 810, 7)], [(83, 812, 4)], [(83, 813, 2)], [(83, 816, 4)], [(83, 817, 3)], [(83, 819, 4)], [(83, 820, 4)], [(83, 821, 3)], [(83, 822, 4)], [(83, 823, 4)], [(83, 824, 4)], [(84, 857, 2)], [(84, 859, 4)], [(84, 861, 8)], [(84, 862, 3)], [(84, 893, 6)], [(84, 894, 3)], [(84, 895, 2)], [(84, 898, 5)], [(84, 899, 2)], [(84, 900, 2)], [(84, 901, 2)], [(84, 902, 4)], [(84, 903, 4)], [(84, 904, 6)]]
def J.sel13 : List (List (Nat × Nat × Nat)) := [[(84, 905, 2)], [(84, 906, 6)], [(84, 907, 6)], [(84, 909, 6)], [(84, 910, 3)], [(84, 911, 14)], [(84, 912, 10)], [(84, 913, 6)], [(84, 915, 3)], [(84, 916, 6)], [(84, 917, 5)], [(84, 918, 6)], [(84, 919, 4)], [(84, 920, 2)], [(84, 921, 4)], [(84, 922, 3)], [(84, 923, 6)]]
def J.selT : List (List (List (Nat × Nat × Nat))) := [J.sel0, J.sel1, J.sel2, J.sel3, J.sel4, J.sel5, J.sel6, J.sel7, J.sel8, J.sel9, J.sel10, J.sel11, J.sel12, J.sel13]
/-- the classes of things that may lie in an array of objects -/
def J.okL : List Nat := [1, 2, 3, 4, 5, 6, 7, 8, 9, 10, 11, 12, 13, 14, 15, 16, 17, 18, 19, 20, 21, 22, 23, 24, 25, 26, 27, 28, 29, 30, 31, 32, 33, 34, 35, 36, 37, 38, 39, 40, 41, 42, 43, 44, 45, 46, 47, 48, 49, 50, 51, 52, 53, 54, 55, 56, 57, 58, 59, 60, 61, 62, 63, 64, 65, 66, 67, 68, 69, 70, 71, 72, 73, 74, 75, 76, 77, 78, 79, 80, 81, 82, 83, 84, 91, 95, 105, 201, 202, 203, 204, 211, 212, 213, 214, 215, 216, 217, 218, 219, 311, 312, 321]
def J.okK (c : Nat) : Bool := J.okL.contains c
/-- classes of which there are objects -/
def J.ikL : List Nat := [1, 2, 3, 4, 5, 6, 7, 8, 9, 10, 11, 12, 13, 14, 15, 16, 17, 18, 19, 20, 21, 23, 24, 25, 26, 27, 28, 29, 30, 31, 32, 33, 34, 35, 36, 37, 38, 39, 40, 41, 42, 43, 44, 45, 46, 47, 48, 49, 50, 51, 52, 53, 54, 55, 56, 57, 58, 59, 60, 61, 62, 63, 64, 65, 66, 67, 68, 69, 70, 71, 72, 73, 74, 75, 76, 77, 78, 79, 80, 81, 82, 83, 84, 201, 202, 203, 204, 211, 212, 213, 214, 215, 216, 217, 218, 219, 311, 312, 321]
def J.ik (c : Nat) : Bool := J.ikL.contains c
/-- classes that things are cast to -/
def J.ctgL : List Nat := [1, 2, 3, 4, 5, 6, 7, 8, 9, 10, 11, 12, 13, 14, 15, 16, 17, 18, 19, 20, 21, 23, 24, 25, 26, 27, 28, 29, 30, 31, 32, 33, 34, 35, 36, 37, 38, 39, 40, 41, 42, 43, 44, 45, 46, 47, 48, 49, 50, 51, 52, 53, 54, 55, 56, 57, 58, 59, 60, 61, 62, 63, 64, 65, 66, 67, 68, 69, 70, 71, 72, 73, 74, 75, 76, 77, 78, 79, 80, 81, 82, 83, 84, 85, 88, 89, 91, 92, 93, 94, 95, 96, 105, 201, 204, 214, 215]
def J.ctg (c : Nat) : Bool := J.ctgL.contains c
/-- classes that are not of a class -/
def J.ncL : List (Nat × List Nat) := [(17, [1, 2, 3, 4, 5, 6, 7, 8, 9, 10, 11, 12, 13, 14, 15, 16, 18, 19, 20, 21, 22, 23, 24, 25, 26, 27, 28, 29, 30, 31, 32, 33, 34, 35, 36, 37, 38, 39, 40, 41, 42, 43, 44, 45, 46, 47, 48, 49, 50, 51, 52, 53, 54, 55, 56, 57, 58, 59, 60, 61, 62, 63, 64, 65, 66, 67, 68, 69, 70, 71, 72, 73, 74, 75, 76, 77, 78, 79, 80, 81, 82, 83, 84, 105, 201, 202, 203, 204, 211, 212, 213, 214, 215, 216, 217, 218, 219, 311, 312, 321]), (21, [1, 2, 3, 4, 5, 6, 7, 8, 9, 10, 11, 12, 13, 14, 15, 16, 17, 18, 19, 20, 23, 24, 25, 26, 27, 28, 29, 30, 31, 32, 33, 34, 35, 36, 37, 38, 39, 40, 41, 42, 43, 44, 45, 46, 47, 48, 49, 50, 51, 52, 53, 54, 55, 56, 57, 58, 59, 60, 61, 62, 63, 64, 65, 66, 67, 68, 69, 70, 71, 72, 73, 74, 75, 76, 77, 78, 79, 80, 81, 82, 83, 84, 105, 321]), (23, [1, 2, 3, 4, 5, 6, 7, 8, 9, 10, 11, 12, 13, 14, 15, 16, 17, 18, 19, 20, 21, 22, 24, 25, 26, 27, 28, 29, 30, 31, 32, 33, 34, 35, 36, 37, 38, 39, 40, 41, 42, 43, 44, 45, 46, 47, 48, 49, 50, 51, 52, 53, 54, 55, 56, 57, 58, 59, 60, 61, 62, 63, 64, 65, 66, 67, 68, 69, 70, 71, 72, 73, 74, 75, 76, 77, 78, 79, 80, 81, 82, 83, 84, 105, 111, 201, 202, 203, 204, 211, 212, 213, 214, 215, 216, 217, 218, 219, 311, 312]), (28, [1, 2, 3, 4, 5, 6, 7, 8, 9, 10, 11, 12, 13, 14, 15, 16, 17, 18, 19, 20, 21, 22, 23, 24, 25, 26, 27, 29, 30, 31, 32, 33, 34, 35, 36, 37, 38, 39, 40, 41, 42, 43, 44, 45, 46, 47, 48, 49, 50, 51, 52, 53, 54, 55, 56, 57, 58, 59, 60, 61, 62, 63, 64, 65, 66, 67, 68, 69, 70, 71, 72, 73, 74, 75, 76, 77, 78, 79, 80, 81, 82, 83, 84, 105, 201, 202, 203, 204, 211, 212, 213, 214, 215, 216, 217, 218, 219, 311, 312, 321]), (37, [1, 2, 3, 4, 5, 6, 7, 8, 9, 10, 11, 12, 13, 14, 15, 16, 17, 18, 19, 20, 21, 22, 23, 24, 25, 26, 27, 28, 29, 30, 31, 32, 33, 34, 35, 36, 38, 39, 40, 41, 42, 43, 44, 45, 46, 47, 48, 49, 50, 51, 52, 53, 54, 55, 56, 57, 58, 59, 60, 61, 62, 63, 64, 65, 66, 67, 68, 69, 70, 71, 72, 73, 74, 75, 76, 77, 78, 79, 80, 81, 82, 83, 84, 105, 201, 202, 203, 204, 211, 212, 213, 214, 215, 216, 217, 218, 219, 311, 312, 321]), (40, [1, 2, 3, 4, 5, 6, 7, 8, 9, 10, 11, 12, 13, 14, 15, 16, 17, 18, 19, 20, 21, 22, 23, 24, 25, 26, 27, 28, 29, 30, 31, 32, 33, 34, 35, 36, 37, 38, 39, 41, 42, 43, 44, 45, 46, 47, 48, 49, 50, 51, 52, 53, 54, 55, 56, 57, 58, 59, 60, 61, 62, 63, 64, 65, 66, 67, 68, 69, 70, 71, 72, 73, 74, 75, 76, 77, 78, 79, 80, 81, 82, 83, 84, 105, 201, 202, 203, 204, 211, 212, 213, 214, 215, 216, 217, 218, 219, 311, 312, 321]), (44, [1, 2, 3, 4, 5, 6, 7, 8, 9, 10, 11, 12, 13, 14, 15, 16, 17, 18, 19, 20, 21, 22, 23, 24, 25, 26, 27, 28, 29, 30, 31, 32, 33, 34, 35, 36, 37, 38, 39, 40, 41, 42, 43, 45, 46, 47, 48, 49, 50, 51, 52, 53, 54, 55, 56, 57, 58, 59, 60, 61, 62, 63, 64, 65, 66, 67, 68, 69, 70, 71, 72, 73, 74, 75, 76, 77, 78, 79, 80, 81, 82, 83, 84, 105, 201, 202, 203, 204, 211, 212, 213, 214, 215, 216, 217, 218, 219, 311, 312, 321]), (47, [1, 2, 3, 4, 5, 6, 7, 8, 9, 10, 11, 12, 13, 14, 15, 16, 17, 18, 19, 20, 21, 22, 23, 24, 25, 26, 27, 28, 29, 30, 31, 32, 33, 34, 35, 36, 37, 38, 39, 40, 41, 42, 43, 44, 45, 46, 48, 49, 50, 51, 52, 53, 54, 55, 56, 57, 58, 59, 60, 61, 62, 63, 64, 65, 66, 67, 68, 69, 70, 71, 72, 73, 74, 75, 76, 77, 78, 79, 80, 81, 82, 83, 84, 105, 201, 202, 203, 204, 211, 212, 213, 214, 215, 216, 217, 218, 219, 311, 312, 321]), (55, [1, 2, 3, 4, 5, 6, 7, 8, 9, 10, 11, 12, 13, 14, 15, 16, 17, 18, 19, 20, 21, 22, 23, 24, 25, 26, 27, 28, 29, 30, 31, 32, 33, 34, 35, 36, 37, 38, 39, 40, 41, 42, 43, 44, 45, 46, 47, 48, 49, 50, 56, 57, 58, 59, 60, 61, 62, 63, 64, 65, 66, 67, 68, 69, 70, 71, 72, 73, 74, 75, 76, 77, 78, 79, 80, 81, 82, 83, 84, 105, 201, 202, 203, 204, 211, 212, 213, 214, 215, 216, 217, 218, 219, 311, 312, 321]), (92, [1, 2, 3, 4, 5, 6, 7, 8, 9, 10, 11, 12, 13, 14, 15, 16, 17, 18, 19, 20, 21, 22, 23, 24, 25, 26, 27, 28, 29, 30, 31, 32, 33, 34, 35, 37, 39, 40, 41, 42, 44, 45, 47, 48, 49, 50, 51, 52, 53, 54, 55, 56, 57, 58, 59, 60, 61, 62, 63, 64, 65, 66, 67, 68, 69, 70, 71, 72, 73, 74, 75, 76, 77, 78, 79, 80, 81, 82, 83, 84, 105, 201, 202, 203, 204, 211, 212, 213, 214, 215, 216, 217, 218, 219, 311, 312, 321])]
def J.nc (c d : Nat) : Bool := ((J.ncL.lookup d).getD []).contains c
end
section
/-! the small machine: ints and longs are Int, references Int (0 null, else the address + 1), one heap of all fields and elements; J.WP: from here the method comes to its end, and Q -/
set_option maxRecDepth 100000
abbrev J.V : Type := Int ⊕ Int ⊕ Int ⊕ Unit
abbrev J.I (x : Int) : J.V := Sum.inl x
abbrev J.L (x : Int) : J.V := Sum.inr (Sum.inl x)
abbrev J.R (x : Int) : J.V := Sum.inr (Sum.inr (Sum.inl x))
abbrev J.U : J.V := Sum.inr (Sum.inr (Sum.inr ()))
abbrev J.H : Type := (Int → Nat) × (Int → Int) × (Int → Int → Int) × Int × Int
abbrev J.O : Type := Option J.V ⊕ Int
def J.cl (h : J.H) (a : Int) : Nat := h.1 a
def J.ln (h : J.H) (a : Int) : Int := h.2.1 a
def J.gv (h : J.H) (a i : Int) : Int := h.2.2.1 a i
def J.nx (h : J.H) : Int := h.2.2.2.1
def J.us (h : J.H) : Int := h.2.2.2.2
def J.sv (h : J.H) (a i x : Int) : J.H := (h.1, h.2.1, fun b j => if b = a ∧ j = i then x else h.2.2.1 b j, h.2.2.2)
def J.nw (h : J.H) (c : Nat) (n w : Int) : J.H := (fun b => if b = J.nx h then c else h.1 b, fun b => if b = J.nx h then n else h.2.1 b, fun b j => if b = J.nx h then 0 else h.2.2.1 b j, J.nx h + 1, J.us h + w)
def J.cpy (h : J.H) (a i b j n : Int) : J.H := (h.1, h.2.1, fun x y => if x = b ∧ j ≤ y ∧ y < j + n then h.2.2.1 a (i + (y - j)) else h.2.2.1 x y, h.2.2.2)
/-- a new exception -/
def J.ex (h : J.H) (a : Int) : J.H := J.sv (J.sv (J.sv h a 164 a) a 165 (J.gv h (-1) 3)) a 166 (J.gv h (-1) 4)
/-- the constants of the enum: which it is, and what its fields hold -/
def J.isK (h : J.H) (a : Int) : Bool := a == J.gv h (-1) 11 || a == J.gv h (-1) 12 || a == J.gv h (-1) 13 || a == J.gv h (-1) 14 || a == J.gv h (-1) 15
def J.kx (h : J.H) (a : Int) : Int := if a = J.gv h (-1) 11 then 11 else if a = J.gv h (-1) 12 then 12 else if a = J.gv h (-1) 13 then 13 else if a = J.gv h (-1) 14 then 14 else 15
def J.kf (h : J.H) (a : Int) (r : Nat) : Int := J.gv h (-1) (2000 + 10 * J.kx h a + ((r : Int) - 554))
def J.UM : Int := 6200000
def J.w32 (x : Int) : Int := (x + 2147483648) % 4294967296 - 2147483648
def J.w64 (x : Int) : Int := (x + 9223372036854775808) % 18446744073709551616 - 9223372036854775808
def J.and32 (a b : Int) : Int := (Int32.ofInt a &&& Int32.ofInt b).toInt
def J.or32 (a b : Int) : Int := (Int32.ofInt a ||| Int32.ofInt b).toInt
def J.xor32 (a b : Int) : Int := (Int32.ofInt a ^^^ Int32.ofInt b).toInt
def J.and64 (a b : Int) : Int := (Int64.ofInt a &&& Int64.ofInt b).toInt
def J.or64 (a b : Int) : Int := (Int64.ofInt a ||| Int64.ofInt b).toInt
def J.xor64 (a b : Int) : Int := (Int64.ofInt a ^^^ Int64.ofInt b).toInt
def J.shl32 (a b : Int) : Int := J.w32 (a * 2 ^ (b % 32).toNat)
def J.shr32 (a b : Int) : Int := a / 2 ^ (b % 32).toNat
def J.ush32 (a b : Int) : Int := J.w32 ((a % 4294967296) / 2 ^ (b % 32).toNat)
def J.shl64 (a b : Int) : Int := J.w64 (a * 2 ^ (b % 64).toNat)
def J.shr64 (a b : Int) : Int := a / 2 ^ (b % 64).toNat
def J.ush64 (a b : Int) : Int := J.w64 ((a % 18446744073709551616) / 2 ^ (b % 64).toNat)
def J.i8 (x : Int) : Int := (x + 128) % 256 - 128
def J.sb (c d : Nat) : Bool := J.ik c && (c == d || J.sp c == d || J.sp (J.sp c) == d || J.sp (J.sp (J.sp c)) == d)
/-- an array -/
def J.ia (c : Nat) : Bool := decide (200 < c) && decide (c < 320) && (J.ik c || (c == 301 || c == 304))
abbrev J.zo (y : Int) : Prop := y = 0 ∨ y = 1
abbrev J.br (y : Int) : Prop := -128 ≤ y ∧ y < 128
abbrev J.cr (y : Int) : Prop := 0 ≤ y ∧ y < 65536
abbrev J.rg (j n : Int) : Prop := 0 ≤ j ∧ j < n
abbrev J.nz (y : Int) : Prop := ¬ y = 0
abbrev J.no (y : Int) : Prop := y = 0
/-- what a place of a kind can hold (0 int, 1 long, 2 reference, 3 boolean, 4 byte) -/
def J.fit (t : Int) (x : Int) : Bool := if t = 3 then x == 0 || x == 1 else if t = 4 then decide (-128 ≤ x) && decide (x < 128) else if t = 5 then decide (0 ≤ x) && decide (x < 65536) else true
def J.ty (t : Int) (x : Int) : J.V := if t = 1 then J.L x else if t = 2 then J.R x else J.I x
/-- an array class of a kind -/
def J.isA (c : Nat) (t : Nat) : Bool := match t with
  | 0 => c == 201 || c == 301
  | 1 => c == 202
  | 3 => c == 203 || c == 204 || c == 304
  | _ => (decide (211 ≤ c) && decide (c ≤ 219)) || c == 311 || c == 312
abbrev J.Rs : Type := (Nat × List J.V × List J.V × J.H) ⊕ (Nat × List J.V × List J.V) ⊕ (J.O × J.H)
def J.go (n : Nat) (ls st : List J.V) (h : J.H) : Option J.Rs := some (Sum.inl (n, ls, st, h))
def J.fin (o : J.O) (h : J.H) : Option J.Rs := some (Sum.inr (Sum.inr (o, h)))
def J.iv (v : J.V) : J.V := match v with
  | Sum.inr (Sum.inl _) => J.U
  | v => v
/-- a value comes into the locals: a long whose second half it takes is gone -/
def J.st1 : List J.V → Nat → J.V → List J.V
  | [], _, _ => []
  | _ :: l, 0, v => v :: l
  | a :: [], 1, _ => [J.iv a]
  | a :: _ :: l, 1, v => J.iv a :: v :: l
  | a :: l, n + 2, v => a :: J.st1 l (n + 1) v
def J.st2 (ls : List J.V) (i : Nat) (v : J.V) : List J.V := (J.st1 ls i v).set (i + 1) J.U
def J.lay : List J.V → List J.V
  | [] => []
  | Sum.inr (Sum.inl x) :: l => J.L x :: J.U :: J.lay l
  | v :: l => v :: J.lay l
def J.pad (n : Nat) (l : List J.V) : List J.V := l ++ List.replicate (n - l.length) J.U
/-- the locals a call begins with: the arguments as they lie on the stack (the last on top) -/
def J.ent (n : Nat) (m : Int) (st : List J.V) : List J.V := J.pad m.toNat (J.lay (st.take n).reverse)
def J.lk (o x : Nat) (i : Instr) (n : Nat) : Option (Instr × Nat × Nat × Nat × Int) := match (J.cp.getD o []).lookup x with
  | some (r, s, t) => some (i, n, r, s, t)
  | none => none
def J.atc (t : ArrayType) : Nat := match t with
  | .int => 201
  | .long => 202
  | .boolean => 203
  | .byte => 204
  | _ => 0
def J.if1 (p : Nat → Nat → Int → Bool) (q : Option (Instr × Nat × Nat × Nat × Int)) : Option (Instr × Nat × Nat × Nat × Int) := match q with
  | some (i, n, r, s, t) => if p r s t = true then some (i, n, r, s, t) else none
  | none => none
def J.rsv (o fl pc : Nat) (i : Instr) (n : Nat) : Option (Instr × Nat × Nat × Nat × Int) := match i with
  | .aload_n k => some (.aload k.val, n, 0, 0, 0)
  | .iload_n k => some (.iload k.val, n, 0, 0, 0)
  | .lload_n k => some (.lload k.val, n, 0, 0, 0)
  | .astore_n k => some (.astore k.val, n, 0, 0, 0)
  | .istore_n k => some (.istore k.val, n, 0, 0, 0)
  | .lstore_n k => some (.lstore k.val, n, 0, 0, 0)
  | .bipush x => if -128 ≤ x ∧ x < 128 then some (.iconst x, n, 0, 0, 0) else none
  | .sipush x => if -32768 ≤ x ∧ x < 32768 then some (.iconst x, n, 0, 0, 0) else none
  | .iconst x => if -128 ≤ x ∧ x < 128 then some (.iconst x, n, pc, 0, 0) else none
  | .getfield x => match (J.cp.getD o []).lookup (16 * x) with
    | some (r, s, t) => some (i, n, r, s, if t < 10 then t else t - 10)
    | none => none
  | .putfield x => match (J.cp.getD o []).lookup (16 * x) with
    | some (r, s, t) => if 554 ≤ r then none else if t < 10 then some (i, n, r, s, t) else if 100 ≤ fl ∧ s = o then some (i, n, r, s, t - 10) else none
    | none => none
  | .getstatic x => J.lk o (16 * x + 1) i n
  | .invokestatic x => J.lk o (16 * x + 2) i n
  | .invokespecial x => match J.lk o (16 * x + 8) i n with
    | some q => some q
    | none => J.lk o (16 * x + 9) i n
  | .invokevirtual x => J.lk o (16 * x + 3) i n
  | .new x => J.if1 (fun r s t => 7 ≤ s) (J.lk o (16 * x + 4) i n)
  | .anewarray x => J.if1 (fun r s t => 211 ≤ t) (J.lk o (16 * x + 4) i n)
  | .checkcast x => J.if1 (fun r s t => r ≠ 0) (J.lk o (16 * x + 4) i n)
  | .instanceof x => J.if1 (fun r s t => r ≠ 0) (J.lk o (16 * x + 4) i n)
  | .newarray y => if J.atc y = 0 then none else some (i, n, pc, 0, 0)
  | .tableswitch d lo hi offs => if 0 ≤ (pc : Int) + d ∧ lo ≤ hi ∧ (offs.size : Int) = hi - lo + 1 ∧ (offs.toList.all fun f => decide (0 ≤ (pc : Int) + f)) = true then some (i, n, pc, 0, 0) else none
  | .lookupswitch d ps => if 0 ≤ (pc : Int) + d ∧ ((ps.toList.all fun f => decide (0 ≤ (pc : Int) + f.2)) && ((ps.toList.zip (ps.toList.drop 1)).all fun q => decide (q.1.1 < q.2.1))) = true then some (i, n, pc, 0, 0) else none
  | .ldc x => match J.lk o (16 * x + 5) i n with
    | some q => some q
    | none => J.lk o (16 * x + 6) i n
  | .ldc_w x => match J.lk o (16 * x + 5) (.ldc x) n with
    | some q => if q.2.2.1 = 900 then none else some q
    | none => J.lk o (16 * x + 6) (.ldc x) n
  | .ldc2_w x => J.lk o (16 * x + 7) i n
  | .goto f => if 0 ≤ (pc : Int) + f then some (i, n, ((pc : Int) + f).toNat, 0, 0) else none
  | .if_acmp _ f => if 0 ≤ (pc : Int) + f then some (i, n, ((pc : Int) + f).toNat, 0, 0) else none
  | .if_icmp _ f => if 0 ≤ (pc : Int) + f then some (i, n, ((pc : Int) + f).toNat, 0, 0) else none
  | .ifCond _ f => if 0 ≤ (pc : Int) + f then some (i, n, ((pc : Int) + f).toNat, 0, 0) else none
  | .ifnull f => if 0 ≤ (pc : Int) + f then some (i, n, ((pc : Int) + f).toNat, 0, 0) else none
  | .ifnonnull f => if 0 ≤ (pc : Int) + f then some (i, n, ((pc : Int) + f).toNat, 0, 0) else none
  | .ireturn => if fl % 100 = 0 ∨ fl % 100 = 3 ∨ fl % 100 = 4 ∨ fl % 100 = 5 then some (i, n, 0, 0, ((fl % 100 : Nat) : Int)) else none
  | .lreturn => if fl % 100 = 1 then some (i, n, pc, 0, 0) else none
  | .areturn => if fl % 100 = 2 then some (i, n, pc, 0, 0) else none
  | .return_ => if fl % 100 = 7 then some (i, n, pc, 0, 0) else none
  | _ => some (i, n, pc, 0, 0)
/-- how many bytes an instruction has -/
def J.lenOk (i : Instr) (len : Nat) : Bool := match i with
  | .tableswitch _ _ _ _ => true
  | .lookupswitch _ _ => true
  | .bipush _ | .iload _ | .lload _ | .aload _ | .istore _ | .lstore _ | .astore _ | .ldc _ | .newarray _ => len == 2
  | .sipush _ | .iinc _ _ | .ldc_w _ | .ldc2_w _ | .getfield _ | .putfield _ | .getstatic _ | .invokestatic _ | .invokespecial _ | .invokevirtual _ | .new _ | .anewarray _ | .checkcast _ | .instanceof _ | .goto _ | .if_acmp _ _ | .if_icmp _ _ | .ifCond _ _ | .ifnull _ | .ifnonnull _ => len == 3
  | _ => len == 1
/-- the instruction of method k at pc: as it is, where the next one lies, three numbers that its operand comes to -/
def J.cd (k pc : Nat) : Option (Instr × Nat × Nat × Nat × Int) := match (J.mt.getD (k / 100) [])[k % 100]? with
  | none => none
  | some (b, o, fl) => match decode b pc with
    | .ok (i, len) => if J.lenOk i len = true then J.rsv o fl pc i (pc + len) else none
    | .error _ => none
def J.sel (c v : Nat) : Option (Nat × Nat) := ((J.selT.getD (v / 50) []).getD (v % 50) []).lookup c
def J.icmp (c : Jvm.ClassFile.Cond) (a b : Int) : Bool := match c with
  | .eq => decide (a = b)
  | .ne => !decide (a = b)
  | .lt => decide (a < b)
  | .ge => !decide (a < b)
  | .gt => !decide (a ≤ b)
  | .le => decide (a ≤ b)
def J.acmp (c : Jvm.ClassFile.ACond) (a b : Int) : Bool := match c with
  | .eq => decide (a = b)
  | .ne => !decide (a = b)
/-- where a switch leads -/
def J.tsw (pc : Nat) (d lo hi : Int) (offs : Array Int) (x : Int) : Nat := ((pc : Int) + (if x < lo ∨ hi < x then d else offs.getD (x - lo).toNat 0)).toNat
def J.lsw (pc : Nat) (d : Int) (ps : Array (Int × Int)) (x : Int) : Nat := ((pc : Int) + (ps.toList.lookup x).getD d).toNat
/-- a new array of n places, of a class -/
def J.na (n : Nat) (ls st : List J.V) (h : J.H) (c : Nat) (z : Int) : Option J.Rs := if 0 ≤ z ∧ J.us h + 7 + z ≤ J.UM then J.go n ls (J.R (J.nx h) :: st) (J.nw h c z (7 + z)) else none
/-- what may be put into an array of references: the class number of its places (0: anything) -/
def J.cpt (c : Nat) : Nat := match c with
  | 211 => 24 | 212 => 91 | 213 => 23 | 214 => 0 | 215 => 105 | 216 => 63 | 217 => 74 | 218 => 61 | 219 => 95 | _ => 999
/-- these places of an array of references hold null or a thing -/
def J.vld (h : J.H) (a q m : Int) : Bool := (List.range m.toNat).all fun i => J.gv h a (q + i) == 0 || J.okK (J.cl h (J.gv h a (q + i)))
/-- one instruction: where it leads; a call; an end -/
def J.sx (i : Instr) (n r s : Nat) (t : Int) (ls st : List J.V) (h : J.H) : Option J.Rs := match i with
  | .aconst_null => J.go n ls (J.R 0 :: st) h
  | .iconst x => J.go n ls (J.I x :: st) h
  | .lconst x => J.go n ls (J.L (x.val : Int) :: st) h
  | .ldc _ => if s = 1 then J.go n ls (J.R (J.gv h (-1) r) :: st) h else J.go n ls (J.I t :: st) h
  | .ldc2_w _ => J.go n ls (J.L t :: st) h
  | .iload j => match ls[j]? with
    | some (Sum.inl x) => J.go n ls (J.I x :: st) h
    | _ => none
  | .lload j => match ls[j]? with
    | some (Sum.inr (Sum.inl x)) => J.go n ls (J.L x :: st) h
    | _ => none
  | .aload j => match ls[j]? with
    | some (Sum.inr (Sum.inr (Sum.inl x))) => J.go n ls (J.R x :: st) h
    | _ => none
  | .istore j => match st with
    | Sum.inl x :: st => if j < ls.length then J.go n (J.st1 ls j (J.I x)) st h else none
    | _ => none
  | .lstore j => match st with
    | Sum.inr (Sum.inl x) :: st => if j + 1 < ls.length then J.go n (J.st2 ls j (J.L x)) st h else none
    | _ => none
  | .astore j => match st with
    | Sum.inr (Sum.inr (Sum.inl x)) :: st => if j < ls.length then J.go n (J.st1 ls j (J.R x)) st h else none
    | _ => none
  | .iinc j c => match ls[j]? with
    | some (Sum.inl x) => J.go n (ls.set j (J.I (J.w32 (x + c)))) st h
    | _ => none
  | .dup => match st with
    | Sum.inl x :: st => J.go n ls (J.I x :: J.I x :: st) h
    | Sum.inr (Sum.inr (Sum.inl x)) :: st => J.go n ls (J.R x :: J.R x :: st) h
    | _ => none
  | .dup_x1 => match st with
    | Sum.inl x :: Sum.inr (Sum.inr (Sum.inl y)) :: st => J.go n ls (J.I x :: J.R y :: J.I x :: st) h
    | Sum.inl x :: Sum.inl y :: st => J.go n ls (J.I x :: J.I y :: J.I x :: st) h
    | Sum.inr (Sum.inr (Sum.inl x)) :: Sum.inr (Sum.inr (Sum.inl y)) :: st => J.go n ls (J.R x :: J.R y :: J.R x :: st) h
    | _ => none
  | .dup2 => match st with
    | Sum.inr (Sum.inl x) :: st => J.go n ls (J.L x :: J.L x :: st) h
    | Sum.inl x :: Sum.inr (Sum.inr (Sum.inl y)) :: st => J.go n ls (J.I x :: J.R y :: J.I x :: J.R y :: st) h
    | _ => none
  | .pop => match st with
    | Sum.inl _ :: st => J.go n ls st h
    | Sum.inr (Sum.inr (Sum.inl _)) :: st => J.go n ls st h
    | _ => none
  | .pop2 => match st with
    | Sum.inr (Sum.inl _) :: st => J.go n ls st h
    | _ => none
  | .iadd => match st with
    | Sum.inl b :: Sum.inl a :: st => J.go n ls (J.I (J.w32 (a + b)) :: st) h
    | _ => none
  | .isub => match st with
    | Sum.inl b :: Sum.inl a :: st => J.go n ls (J.I (J.w32 (a - b)) :: st) h
    | _ => none
  | .imul => match st with
    | Sum.inl b :: Sum.inl a :: st => J.go n ls (J.I (J.w32 (a * b)) :: st) h
    | _ => none
  | .idiv => match st with
    | Sum.inl b :: Sum.inl a :: st => if b = 0 then none else J.go n ls (J.I (J.w32 (a.tdiv b)) :: st) h
    | _ => none
  | .irem => match st with
    | Sum.inl b :: Sum.inl a :: st => if b = 0 then none else J.go n ls (J.I (a.tmod b) :: st) h
    | _ => none
  | .ineg => match st with
    | Sum.inl a :: st => J.go n ls (J.I (J.w32 (-a)) :: st) h
    | _ => none
  | .iand => match st with
    | Sum.inl b :: Sum.inl a :: st => J.go n ls (J.I (J.and32 a b) :: st) h
    | _ => none
  | .ior => match st with
    | Sum.inl b :: Sum.inl a :: st => J.go n ls (J.I (J.or32 a b) :: st) h
    | _ => none
  | .ixor => match st with
    | Sum.inl b :: Sum.inl a :: st => J.go n ls (J.I (J.xor32 a b) :: st) h
    | _ => none
  | .ishl => match st with
    | Sum.inl b :: Sum.inl a :: st => J.go n ls (J.I (J.shl32 a b) :: st) h
    | _ => none
  | .ishr => match st with
    | Sum.inl b :: Sum.inl a :: st => J.go n ls (J.I (J.shr32 a b) :: st) h
    | _ => none
  | .iushr => match st with
    | Sum.inl b :: Sum.inl a :: st => J.go n ls (J.I (J.ush32 a b) :: st) h
    | _ => none
  | .i2l => match st with
    | Sum.inl a :: st => J.go n ls (J.L a :: st) h
    | _ => none
  | .l2i => match st with
    | Sum.inr (Sum.inl a) :: st => J.go n ls (J.I (J.w32 a) :: st) h
    | _ => none
  | .i2b => match st with
    | Sum.inl a :: st => J.go n ls (J.I (J.i8 a) :: st) h
    | _ => none
  | .i2c => match st with
    | Sum.inl a :: st => J.go n ls (J.I (a % 65536) :: st) h
    | _ => none
  | .ladd => match st with
    | Sum.inr (Sum.inl b) :: Sum.inr (Sum.inl a) :: st => J.go n ls (J.L (J.w64 (a + b)) :: st) h
    | _ => none
  | .lsub => match st with
    | Sum.inr (Sum.inl b) :: Sum.inr (Sum.inl a) :: st => J.go n ls (J.L (J.w64 (a - b)) :: st) h
    | _ => none
  | .lmul => match st with
    | Sum.inr (Sum.inl b) :: Sum.inr (Sum.inl a) :: st => J.go n ls (J.L (J.w64 (a * b)) :: st) h
    | _ => none
  | .ldiv => match st with
    | Sum.inr (Sum.inl b) :: Sum.inr (Sum.inl a) :: st => if b = 0 then none else J.go n ls (J.L (J.w64 (a.tdiv b)) :: st) h
    | _ => none
  | .lrem => match st with
    | Sum.inr (Sum.inl b) :: Sum.inr (Sum.inl a) :: st => if b = 0 then none else J.go n ls (J.L (a.tmod b) :: st) h
    | _ => none
  | .lneg => match st with
    | Sum.inr (Sum.inl a) :: st => J.go n ls (J.L (J.w64 (-a)) :: st) h
    | _ => none
  | .land => match st with
    | Sum.inr (Sum.inl b) :: Sum.inr (Sum.inl a) :: st => J.go n ls (J.L (J.and64 a b) :: st) h
    | _ => none
  | .lor => match st with
    | Sum.inr (Sum.inl b) :: Sum.inr (Sum.inl a) :: st => J.go n ls (J.L (J.or64 a b) :: st) h
    | _ => none
  | .lxor => match st with
    | Sum.inr (Sum.inl b) :: Sum.inr (Sum.inl a) :: st => J.go n ls (J.L (J.xor64 a b) :: st) h
    | _ => none
  | .lshl => match st with
    | Sum.inl b :: Sum.inr (Sum.inl a) :: st => J.go n ls (J.L (J.shl64 a b) :: st) h
    | _ => none
  | .lshr => match st with
    | Sum.inl b :: Sum.inr (Sum.inl a) :: st => J.go n ls (J.L (J.shr64 a b) :: st) h
    | _ => none
  | .lushr => match st with
    | Sum.inl b :: Sum.inr (Sum.inl a) :: st => J.go n ls (J.L (J.ush64 a b) :: st) h
    | _ => none
  | .lcmp => match st with
    | Sum.inr (Sum.inl b) :: Sum.inr (Sum.inl a) :: st => J.go n ls (J.I (if a < b then -1 else if a = b then 0 else 1) :: st) h
    | _ => none
  | .goto _ => J.go r ls st h
  | .if_icmp c _ => match st with
    | Sum.inl b :: Sum.inl a :: st => J.go (if J.icmp c a b = true then r else n) ls st h
    | _ => none
  | .ifCond c _ => match st with
    | Sum.inl a :: st => J.go (if J.icmp c a 0 = true then r else n) ls st h
    | _ => none
  | .if_acmp c _ => match st with
    | Sum.inr (Sum.inr (Sum.inl b)) :: Sum.inr (Sum.inr (Sum.inl a)) :: st => J.go (if J.acmp c a b = true then r else n) ls st h
    | _ => none
  | .ifnull _ => match st with
    | Sum.inr (Sum.inr (Sum.inl a)) :: st => J.go (if a = 0 then r else n) ls st h
    | _ => none
  | .ifnonnull _ => match st with
    | Sum.inr (Sum.inr (Sum.inl a)) :: st => J.go (if a = 0 then n else r) ls st h
    | _ => none
  | .tableswitch d lo hi offs => match st with
    | Sum.inl x :: st => J.go (J.tsw r d lo hi offs x) ls st h
    | _ => none
  | .lookupswitch d ps => match st with
    | Sum.inl x :: st => J.go (J.lsw r d ps x) ls st h
    | _ => none
  | .getfield _ => match st with
    | Sum.inr (Sum.inr (Sum.inl a)) :: st => if 554 ≤ r then (if J.isK h a = true then J.go n ls (J.ty t (J.kf h a r) :: st) h else none) else if J.sb (J.cl h a) s = true then J.go n ls (J.ty t (J.gv h a r) :: st) h else none
    | _ => none
  | .putfield _ => match st with
    | Sum.inl x :: Sum.inr (Sum.inr (Sum.inl a)) :: st => if J.sb (J.cl h a) s = true ∧ J.cl h a < 300 ∧ t ≠ 1 ∧ t ≠ 2 ∧ J.fit t x = true then J.go n ls st (J.sv h a r x) else none
    | Sum.inr (Sum.inl x) :: Sum.inr (Sum.inr (Sum.inl a)) :: st => if J.sb (J.cl h a) s = true ∧ J.cl h a < 300 ∧ t = 1 then J.go n ls st (J.sv h a r x) else none
    | Sum.inr (Sum.inr (Sum.inl x)) :: Sum.inr (Sum.inr (Sum.inl a)) :: st => if J.sb (J.cl h a) s = true ∧ J.cl h a < 300 ∧ t = 2 then J.go n ls st (J.sv h a r x) else none
    | _ => none
  | .getstatic _ => J.go n ls (J.ty t (J.gv h (-1) r) :: st) h
  | .iaload => match st with
    | Sum.inl j :: Sum.inr (Sum.inr (Sum.inl a)) :: st => if J.isA (J.cl h a) 0 = true ∧ 0 ≤ j ∧ j < J.ln h a then J.go n ls (J.I (J.gv h a j) :: st) h else none
    | _ => none
  | .laload => match st with
    | Sum.inl j :: Sum.inr (Sum.inr (Sum.inl a)) :: st => if J.isA (J.cl h a) 1 = true ∧ 0 ≤ j ∧ j < J.ln h a then J.go n ls (J.L (J.gv h a j) :: st) h else none
    | _ => none
  | .baload => match st with
    | Sum.inl j :: Sum.inr (Sum.inr (Sum.inl a)) :: st => if J.isA (J.cl h a) 3 = true ∧ 0 ≤ j ∧ j < J.ln h a then J.go n ls (J.I (J.gv h a j) :: st) h else none
    | _ => none
  | .aaload => match st with
    | Sum.inl j :: Sum.inr (Sum.inr (Sum.inl a)) :: st => if J.isA (J.cl h a) 2 = true ∧ 0 ≤ j ∧ j < J.ln h a then J.go n ls (J.R (J.gv h a j) :: st) h else none
    | _ => none
  | .iastore => match st with
    | Sum.inl x :: Sum.inl j :: Sum.inr (Sum.inr (Sum.inl a)) :: st => if J.cl h a = 201 ∧ 0 ≤ j ∧ j < J.ln h a then J.go n ls st (J.sv h a j x) else none
    | _ => none
  | .lastore => match st with
    | Sum.inr (Sum.inl x) :: Sum.inl j :: Sum.inr (Sum.inr (Sum.inl a)) :: st => if J.cl h a = 202 ∧ 0 ≤ j ∧ j < J.ln h a then J.go n ls st (J.sv h a j x) else none
    | _ => none
  | .bastore => match st with
    | Sum.inl x :: Sum.inl j :: Sum.inr (Sum.inr (Sum.inl a)) :: st => if ((J.cl h a = 203 ∧ (x = 0 ∨ x = 1)) ∨ (J.cl h a = 204 ∧ -128 ≤ x ∧ x < 128)) ∧ 0 ≤ j ∧ j < J.ln h a then J.go n ls st (J.sv h a j x) else none
    | _ => none
  | .aastore => match st with
    | Sum.inr (Sum.inr (Sum.inl x)) :: Sum.inl j :: Sum.inr (Sum.inr (Sum.inl a)) :: st => if J.cl h a < 300 ∧ J.isA (J.cl h a) 2 = true ∧ 0 ≤ j ∧ j < J.ln h a ∧ (x = 0 ∨ (J.cpt (J.cl h a) = 0 ∧ J.okK (J.cl h x) = true) ∨ J.sb (J.cl h x) (J.cpt (J.cl h a)) = true) then J.go n ls st (J.sv h a j x) else none
    | _ => none
  | .arraylength => match st with
    | Sum.inr (Sum.inr (Sum.inl a)) :: st => if J.ia (J.cl h a) = true then J.go n ls (J.I (J.ln h a) :: st) h else none
    | _ => none
  | .new _ => if J.us h + s ≤ J.UM then J.go n ls (J.R (J.nx h) :: st) (J.nw h r 0 s) else none
  | .newarray y => match st with
    | Sum.inl z :: st => J.na n ls st h (J.atc y) z
    | _ => none
  | .anewarray _ => match st with
    | Sum.inl z :: st => J.na n ls st h t.toNat z
    | _ => none
  | .checkcast _ => match st with
    | Sum.inr (Sum.inr (Sum.inl a)) :: st => if a = 0 ∨ J.sb (J.cl h a) r = true then J.go n ls (J.R a :: st) h else none
    | _ => none
  | .instanceof _ => match st with
    | Sum.inr (Sum.inr (Sum.inl a)) :: st => if a = 0 ∨ J.sb (J.cl h a) r = true ∨ J.nc (J.cl h a) r = true then J.go n ls (J.I (if a ≠ 0 ∧ J.sb (J.cl h a) r = true then 1 else 0) :: st) h else none
    | _ => none
  | .invokestatic _ => if r < 2000 then (if s ≤ st.length ∧ (st.drop s).length ≤ 7 ∧ (J.ent s t st).length = t.toNat then some (Sum.inr (Sum.inl (r, J.ent s t st, st.drop s))) else none) else if r = 2000 then (match st with
      | Sum.inl m :: Sum.inl j :: Sum.inr (Sum.inr (Sum.inl b)) :: Sum.inl q :: Sum.inr (Sum.inr (Sum.inl a)) :: st => if st.length ≤ 7 ∧ 0 ≤ m ∧ 0 ≤ q ∧ 0 ≤ j ∧ q + m ≤ J.ln h a ∧ j + m ≤ J.ln h b ∧ J.cl h b < 300 ∧ ((J.isA (J.cl h a) 3 = true ∧ J.cl h b = 204 ∧ J.cl h a ≠ 203) ∨ (J.isA (J.cl h a) 2 = true ∧ J.cl h b = 214 ∧ J.vld h a q m = true)) then J.go n ls st (J.cpy h a q b j m) else none
      | _ => none) else none
  | .invokespecial _ => if r < 2000 then (match (st.drop (s - 1)) with
      | Sum.inr (Sum.inr (Sum.inl a)) :: _ => if 0 < s ∧ s ≤ st.length ∧ J.ik (J.cl h a) = true ∧ (st.drop s).length ≤ 7 ∧ (J.ent s t st).length = t.toNat then some (Sum.inr (Sum.inl (r, J.ent s t st, st.drop s))) else none
      | _ => none) else if r = 2004 then (match st with
      | Sum.inr (Sum.inr (Sum.inl a)) :: st => if st.length ≤ 7 ∧ J.cl h a = 21 ∧ J.gv h a 168 = 0 then J.go n ls st (J.ex h a) else none
      | _ => none) else if r = 2005 then (match st with
      | Sum.inr (Sum.inr (Sum.inl a)) :: st => if st.length ≤ 7 ∧ J.ik (J.cl h a) = true then J.go n ls st h else none
      | _ => none) else none
  | .invokevirtual _ => if r = 9001 then (match st with
      | Sum.inr (Sum.inr (Sum.inl a)) :: st => if st.length ≤ 7 ∧ (J.cl h a = 214 ∨ J.cl h a = 311) then J.go n ls (J.R (J.gv h (-1) 900) :: st) h else none
      | _ => none) else if r = 9002 then (match st with
      | Sum.inr (Sum.inr (Sum.inl a)) :: st => if st.length ≤ 7 ∧ J.cl h a = 312 ∧ J.us h + 7 + J.ln h a ≤ J.UM then J.go n ls (J.R (J.nx h) :: st) (J.cpy (J.nw h 215 (J.ln h a) (7 + J.ln h a)) a 0 (J.nx h) 0 (J.ln h a)) else none
      | _ => none) else if r = 9003 then (match st with
      | Sum.inr (Sum.inr (Sum.inl a)) :: st => if J.isK h a = true ∧ st.length ≤ 7 then some (Sum.inr (Sum.inl (451, [J.R a], st))) else none
      | _ => none) else if r = 9004 then (match st with
      | Sum.inr (Sum.inr (Sum.inl a)) :: st => if st.length ≤ 7 ∧ J.cl h a = 204 ∧ J.us h + 7 + J.ln h a ≤ J.UM then J.go n ls (J.R (J.nx h) :: st) (J.cpy (J.nw h 204 (J.ln h a) (7 + J.ln h a)) a 0 (J.nx h) 0 (J.ln h a)) else none
      | _ => none) else match st.drop s with
    | Sum.inr (Sum.inr (Sum.inl a)) :: rest => match J.sel (J.cl h a) r with
      | some (k, m) => if k < 2000 ∧ rest.length ≤ 7 ∧ (J.ent (s + 1) m st).length = m then some (Sum.inr (Sum.inl (k, J.ent (s + 1) m st, rest))) else none
      | none => none
    | _ => none
  | .ireturn => match st with
    | [Sum.inl x] => if J.fit t x = true then J.fin (Sum.inl (some (J.I x))) h else none
    | _ => none
  | .lreturn => match st with
    | [Sum.inr (Sum.inl x)] => J.fin (Sum.inl (some (J.L x))) h
    | _ => none
  | .areturn => match st with
    | [Sum.inr (Sum.inr (Sum.inl x))] => J.fin (Sum.inl (some (J.R x))) h
    | _ => none
  | .return_ => match st with
    | [] => J.fin (Sum.inl none) h
    | _ => none
  | .athrow => match st with
    | Sum.inr (Sum.inr (Sum.inl x)) :: _ => if J.cl h x = 21 then J.fin (Sum.inr x) h else none
    | _ => none
  | _ => none
/-- handlers: ModeHouse.read and LogicText.read -/
def J.hd (k pc : Nat) : Option Nat := if k = 56 then (if 4 ≤ pc ∧ pc < 12 then some 15 else if 50 ≤ pc ∧ pc < 74 then some 77 else none) else if k = 57 then (if 25 ≤ pc ∧ pc < 29 then some 32 else none) else none
abbrev J.Pd : Type := Nat → Nat → Nat → List J.V → List J.V → J.H → (J.O → J.H → Prop) → Prop
/-- behind a call -/
def J.af (P : J.Pd) (d k pc n : Nat) (ls st : List J.V) (Q : J.O → J.H → Prop) (o : J.O) (h : J.H) : Prop := match o with
  | Sum.inl none => P d k n ls st h Q
  | Sum.inl (some v) => P d k n ls (v :: st) h Q
  | Sum.inr e => J.cl h e = 21 ∧ (match J.hd k pc with
    | some q => P d k q ls [J.R e] h Q
    | none => Q (Sum.inr e) h)
def J.SR (P : J.Pd) (d k pc n : Nat) (ls : List J.V) (h : J.H) (Q : J.O → J.H → Prop) (x : Option J.Rs) : Prop := match x with
  | none => False
  | some (Sum.inl (pc', ls', st', h')) => P d k pc' ls' st' h' Q
  | some (Sum.inr (Sum.inl (k', l0, st'))) => 0 < d ∧ P (d - 1) k' 0 l0 [] h (J.af P d k pc n ls st' Q)
  | some (Sum.inr (Sum.inr (o, h'))) => J.hd k pc = none ∧ Q o h'
def J.ST (P : J.Pd) (d k pc : Nat) (ls st : List J.V) (h : J.H) (Q : J.O → J.H → Prop) : Prop := match J.cd k pc with
  | none => False
  | some (i, n, r, s, t) => J.SR P d k pc n ls h Q (J.sx i n r s t ls st h)
def J.Mo (P : J.Pd) : Prop := ∀ d k pc ls st h (Q Q' : J.O → J.H → Prop), (∀ o h, Q o h → Q' o h) → P d k pc ls st h Q → P d k pc ls st h Q'
def J.Cl (P : J.Pd) : Prop := ∀ d k pc ls st h Q, J.ST P d k pc ls st h Q → P d k pc ls st h Q
/-- from pc of method k, with these locals, stack and heap, at most d calls deep, the method ends, and Q of its end -/
def J.WP : J.Pd := fun d k pc ls st h Q => ∀ P : J.Pd, J.Mo P → J.Cl P → P d k pc ls st h Q
theorem J.af_mono {P P' : J.Pd} (hP : ∀ d k pc ls st h Q, P d k pc ls st h Q → P' d k pc ls st h Q) (hM : J.Mo P') {d k pc n : Nat} {ls st : List J.V} {Q Q' : J.O → J.H → Prop} (hQ : ∀ o h, Q o h → Q' o h) (o : J.O) (h : J.H) (x : J.af P d k pc n ls st Q o h) : J.af P' d k pc n ls st Q' o h := by
  match o, x with
  | Sum.inl none, x => exact hM _ _ _ _ _ _ _ _ hQ (hP _ _ _ _ _ _ _ x)
  | Sum.inl (some v), x => exact hM _ _ _ _ _ _ _ _ hQ (hP _ _ _ _ _ _ _ x)
  | Sum.inr e, x =>
    obtain ⟨x1, x2⟩ := x
    refine ⟨x1, ?_⟩
    cases hh : J.hd k pc with
    | some q => rw [hh] at x2; exact hM _ _ _ _ _ _ _ _ hQ (hP _ _ _ _ _ _ _ x2)
    | none => rw [hh] at x2; exact hQ _ _ x2
theorem J.ST_mono {P P' : J.Pd} (hP : ∀ d k pc ls st h Q, P d k pc ls st h Q → P' d k pc ls st h Q) (hM : J.Mo P') {d k pc : Nat} {ls st : List J.V} {h : J.H} {Q Q' : J.O → J.H → Prop} (hQ : ∀ o h, Q o h → Q' o h) (x : J.ST P d k pc ls st h Q) : J.ST P' d k pc ls st h Q' := by
  unfold J.ST at x ⊢
  cases hc : J.cd k pc with
  | none => rw [hc] at x; exact x
  | some z =>
    obtain ⟨i, n, r, s, t⟩ := z
    rw [hc] at x
    dsimp only at x ⊢
    generalize J.sx i n r s t ls st h = y at x ⊢
    match y, x with
    | none, x => exact x
    | some (Sum.inl (pc', ls', st', h')), x => exact hM _ _ _ _ _ _ _ _ hQ (hP _ _ _ _ _ _ _ x)
    | some (Sum.inr (Sum.inl (k', l0, st'))), x => exact ⟨x.1, hM _ _ _ _ _ _ _ _ (J.af_mono hP hM hQ) (hP _ _ _ _ _ _ _ x.2)⟩
    | some (Sum.inr (Sum.inr (o, h'))), x => exact ⟨x.1, hQ _ _ x.2⟩
theorem J.WP_mono : J.Mo J.WP := fun d k pc ls st h Q Q' hQ x P hM hC => hM _ _ _ _ _ _ _ _ hQ (x P hM hC)
theorem J.WP_of {d k pc : Nat} {ls st : List J.V} {h : J.H} {Q : J.O → J.H → Prop} (x : J.ST J.WP d k pc ls st h Q) : J.WP d k pc ls st h Q := fun P hM hC => hC _ _ _ _ _ _ _ (J.ST_mono (fun _ _ _ _ _ _ _ y => y P hM hC) hM (fun _ _ q => q) x)
theorem J.WP_to {d k pc : Nat} {ls st : List J.V} {h : J.H} {Q : J.O → J.H → Prop} (x : J.WP d k pc ls st h Q) : J.ST J.WP d k pc ls st h Q :=
  x (J.ST J.WP) (fun _ _ _ _ _ _ _ _ hQ y => J.ST_mono (fun _ _ _ _ _ _ _ z => z) J.WP_mono hQ y) (fun _ _ _ _ _ _ _ y => J.ST_mono (fun _ _ _ _ _ _ _ z => J.WP_of z) J.WP_mono (fun _ _ q => q) y)
theorem J.WP_iff {d k pc : Nat} {ls st : List J.V} {h : J.H} {Q : J.O → J.H → Prop} : J.WP d k pc ls st h Q ↔ J.ST J.WP d k pc ls st h Q := ⟨J.WP_to, J.WP_of⟩
/-- the rule of one instruction -/
theorem J.at {d k pc : Nat} {ls st : List J.V} {h : J.H} {Q : J.O → J.H → Prop} {i : Instr} {n r s : Nat} {t : Int} (hc : J.cd k pc = some (i, n, r, s, t)) : J.WP d k pc ls st h Q ↔ J.SR J.WP d k pc n ls h Q (J.sx i n r s t ls st h) := by
  rw [J.WP_iff, J.ST, hc]
theorem J.deeper {d e k pc : Nat} {ls st : List J.V} {h : J.H} {Q : J.O → J.H → Prop} (hd : d ≤ e) (x : J.WP d k pc ls st h Q) : J.WP e k pc ls st h Q := by
  refine x (fun d k pc ls st h Q => ∀ e, d ≤ e → J.WP e k pc ls st h Q) (fun d k pc ls st h Q Q' hQ y e he => J.WP_mono _ _ _ _ _ _ _ _ hQ (y e he)) (fun d k pc ls st h Q y e he => ?_) e hd
  refine J.WP_of ?_
  unfold J.ST at y ⊢
  cases hc : J.cd k pc with
  | none => rw [hc] at y; exact y
  | some z =>
    obtain ⟨i, n, r, s, t⟩ := z
    rw [hc] at y
    dsimp only at y ⊢
    generalize J.sx i n r s t ls st h = w at y ⊢
    match w, y with
    | none, y => exact y
    | some (Sum.inl (pc', ls', st', h')), y => exact y e he
    | some (Sum.inr (Sum.inl (k', l0, st'))), y =>
      refine ⟨Nat.lt_of_lt_of_le y.1 he, J.WP_mono _ _ _ _ _ _ _ _ (fun o h' q => ?_) (y.2 (e - 1) (by omega))⟩
      match o, q with
      | Sum.inl none, q => exact q e he
      | Sum.inl (some v), q => exact q e he
      | Sum.inr x, q =>
        obtain ⟨x1, x2⟩ := q
        refine ⟨x1, ?_⟩
        cases hh : J.hd k pc with
        | some q => rw [hh] at x2; exact x2 e he
        | none => rw [hh] at x2; exact x2
    | some (Sum.inr (Sum.inr (o, h'))), y => exact y
end
section
/-! the small machine's heap and numbers: what reads what was written -/
theorem J.gv_sv (h : J.H) (a i x b j : Int) : J.gv (J.sv h a i x) b j = if b = a ∧ j = i then x else J.gv h b j := rfl
theorem J.cl_sv (h : J.H) (a i x b : Int) : J.cl (J.sv h a i x) b = J.cl h b := rfl
theorem J.ln_sv (h : J.H) (a i x b : Int) : J.ln (J.sv h a i x) b = J.ln h b := rfl
theorem J.nx_sv (h : J.H) (a i x : Int) : J.nx (J.sv h a i x) = J.nx h := rfl
theorem J.us_sv (h : J.H) (a i x : Int) : J.us (J.sv h a i x) = J.us h := rfl
theorem J.gv_nw (h : J.H) (c : Nat) (n w b j : Int) : J.gv (J.nw h c n w) b j = if b = J.nx h then 0 else J.gv h b j := rfl
theorem J.cl_nw (h : J.H) (c : Nat) (n w b : Int) : J.cl (J.nw h c n w) b = if b = J.nx h then c else J.cl h b := rfl
theorem J.ln_nw (h : J.H) (c : Nat) (n w b : Int) : J.ln (J.nw h c n w) b = if b = J.nx h then n else J.ln h b := rfl
theorem J.nx_nw (h : J.H) (c : Nat) (n w : Int) : J.nx (J.nw h c n w) = J.nx h + 1 := rfl
theorem J.us_nw (h : J.H) (c : Nat) (n w : Int) : J.us (J.nw h c n w) = J.us h + w := rfl
theorem J.gv_cpy (h : J.H) (a i b j n x y : Int) : J.gv (J.cpy h a i b j n) x y = if x = b ∧ j ≤ y ∧ y < j + n then J.gv h a (i + (y - j)) else J.gv h x y := rfl
theorem J.cl_cpy (h : J.H) (a i b j n x : Int) : J.cl (J.cpy h a i b j n) x = J.cl h x := rfl
theorem J.ln_cpy (h : J.H) (a i b j n x : Int) : J.ln (J.cpy h a i b j n) x = J.ln h x := rfl
theorem J.nx_cpy (h : J.H) (a i b j n : Int) : J.nx (J.cpy h a i b j n) = J.nx h := rfl
theorem J.us_cpy (h : J.H) (a i b j n : Int) : J.us (J.cpy h a i b j n) = J.us h := rfl
theorem J.ext {h g : J.H} (h1 : ∀ a, J.cl h a = J.cl g a) (h2 : ∀ a, J.ln h a = J.ln g a) (h3 : ∀ a i, J.gv h a i = J.gv g a i) (h4 : J.nx h = J.nx g) (h5 : J.us h = J.us g) : h = g := by
  obtain ⟨c, l, v, n, u⟩ := h
  obtain ⟨c', l', v', n', u'⟩ := g
  have e1 : c = c' := funext h1
  have e2 : l = l' := funext h2
  have e3 : v = v' := funext fun a => funext fun i => h3 a i
  have e4 : n = n' := h4
  have e5 : u = u' := h5
  rw [e1, e2, e3, e4, e5]
theorem J.w32_id {x : Int} (h1 : -2147483648 ≤ x) (h2 : x < 2147483648) : J.w32 x = x := by unfold J.w32; omega
theorem J.w64_id {x : Int} (h1 : -9223372036854775808 ≤ x) (h2 : x < 9223372036854775808) : J.w64 x = x := by unfold J.w64; omega
theorem J.w32_lo (x : Int) : -2147483648 ≤ J.w32 x := by unfold J.w32; omega
theorem J.w32_hi (x : Int) : J.w32 x < 2147483648 := by unfold J.w32; omega
end
section
/-! the small machine: a rule an instruction -/
section
variable {d k pc : Nat} {ls st : List J.V} {h : J.H} {Q : J.O → J.H → Prop} {n r s : Nat} {t : Int}
def J.aok (h : J.H) (a y : Int) : Prop := y = 0 ∨ (J.cpt (J.cl h a) = 0 ∧ J.okK (J.cl h y) = true) ∨ J.sb (J.cl h y) (J.cpt (J.cl h a)) = true
def J.iok (h : J.H) (a : Int) (r : Nat) : Prop := a = 0 ∨ J.sb (J.cl h a) r = true ∨ J.nc (J.cl h a) r = true
theorem J.if_ite {c : Prop} (inst : Decidable c) {d k r n : Nat} {ls st : List J.V} {h : J.H} {Q : J.O → J.H → Prop} : J.WP d k (if c then r else n) ls st h Q ↔ if c then J.WP d k r ls st h Q else J.WP d k n ls st h Q := by
  by_cases x : c
  · rw [if_pos x, if_pos x]
  · rw [if_neg x, if_neg x]
theorem J.ite2 {c A B A' B' : Prop} {inst : Decidable c} (h1 : A ↔ A') (h2 : B ↔ B') : (if c then A else B) ↔ (if c then A' else B') := by
  by_cases x : c
  · rw [if_pos x, if_pos x]; exact h1
  · rw [if_neg x, if_neg x]; exact h2
theorem J.cg {c A A' : Prop} (h1 : A ↔ A') : (c ∧ A) ↔ (c ∧ A') := and_congr_right fun _ => h1
theorem J.tru {c A : Prop} (h : c) : (c ∧ A) ↔ A := ⟨fun q => q.2, fun q => ⟨h, q⟩⟩
theorem J.chk {P : J.Pd} {c : Prop} {inst : Decidable c} {x : Option J.Rs} {d k pc n : Nat} {ls : List J.V} {h : J.H} {Q : J.O → J.H → Prop} : J.SR P d k pc n ls h Q (if c then x else none) ↔ c ∧ J.SR P d k pc n ls h Q x := by
  by_cases y : c
  · rw [if_pos y]; exact ⟨fun z => ⟨y, z⟩, fun z => z.2⟩
  · rw [if_neg y]; exact ⟨fun z => z.elim, fun z => absurd z.1 y⟩
theorem J.chkn {P : J.Pd} {c : Prop} {inst : Decidable c} {x : Option J.Rs} {d k pc n : Nat} {ls : List J.V} {h : J.H} {Q : J.O → J.H → Prop} : J.SR P d k pc n ls h Q (if c then none else x) ↔ ¬ c ∧ J.SR P d k pc n ls h Q x := by
  by_cases y : c
  · rw [if_pos y]; exact ⟨fun z => z.elim, fun z => absurd y z.1⟩
  · rw [if_neg y]; exact ⟨fun z => ⟨y, z⟩, fun z => z.2⟩
theorem J.r_null (hc : J.cd k pc = some (.aconst_null, n, r, s, t)) : J.WP d k pc ls st h Q ↔ J.WP d k n ls (J.R 0 :: st) h Q := J.at hc
theorem J.r_iconst {x : Int} (hc : J.cd k pc = some (.iconst x, n, r, s, t)) : J.WP d k pc ls st h Q ↔ J.WP d k n ls (J.I x :: st) h Q := J.at hc
theorem J.r_lconst {x : Fin 2} (hc : J.cd k pc = some (.lconst x, n, r, s, t)) {y : Int} (hy : (x.val : Int) = y) : J.WP d k pc ls st h Q ↔ J.WP d k n ls (J.L y :: st) h Q := by subst hy; exact J.at hc
theorem J.r_ldc {x : Nat} (hc : J.cd k pc = some (.ldc x, n, r, 0, t)) : J.WP d k pc ls st h Q ↔ J.WP d k n ls (J.I t :: st) h Q := J.at hc
theorem J.r_ldcs {x : Nat} (hc : J.cd k pc = some (.ldc x, n, r, 1, t)) : J.WP d k pc ls st h Q ↔ J.WP d k n ls (J.R (J.gv h (-1) r) :: st) h Q := J.at hc
theorem J.r_ldc2 {x : Nat} (hc : J.cd k pc = some (.ldc2_w x, n, r, s, t)) : J.WP d k pc ls st h Q ↔ J.WP d k n ls (J.L t :: st) h Q := J.at hc
theorem J.r_iload {j : Nat} {x : Int} (hc : J.cd k pc = some (.iload j, n, r, s, t)) (hl : ls[j]? = some (J.I x)) : J.WP d k pc ls st h Q ↔ J.WP d k n ls (J.I x :: st) h Q := by rw [J.at hc, J.sx, hl]; exact Iff.rfl
theorem J.r_lload {j : Nat} {x : Int} (hc : J.cd k pc = some (.lload j, n, r, s, t)) (hl : ls[j]? = some (J.L x)) : J.WP d k pc ls st h Q ↔ J.WP d k n ls (J.L x :: st) h Q := by rw [J.at hc, J.sx, hl]; exact Iff.rfl
theorem J.r_aload {j : Nat} {x : Int} (hc : J.cd k pc = some (.aload j, n, r, s, t)) (hl : ls[j]? = some (J.R x)) : J.WP d k pc ls st h Q ↔ J.WP d k n ls (J.R x :: st) h Q := by rw [J.at hc, J.sx, hl]; exact Iff.rfl
theorem J.r_istore {j : Nat} {x : Int} {l' : List J.V} (hc : J.cd k pc = some (.istore j, n, r, s, t)) (hj : j < ls.length) (hl : J.st1 ls j (J.I x) = l') : J.WP d k pc ls (J.I x :: st) h Q ↔ J.WP d k n l' st h Q := by
  subst hl; rw [J.at hc]; show J.SR _ _ _ _ _ _ _ _ (if j < ls.length then _ else none) ↔ _; rw [if_pos hj]; exact Iff.rfl
theorem J.r_lstore {j : Nat} {x : Int} {l' : List J.V} (hc : J.cd k pc = some (.lstore j, n, r, s, t)) (hj : j + 1 < ls.length) (hl : J.st2 ls j (J.L x) = l') : J.WP d k pc ls (J.L x :: st) h Q ↔ J.WP d k n l' st h Q := by
  subst hl; rw [J.at hc]; show J.SR _ _ _ _ _ _ _ _ (if j + 1 < ls.length then _ else none) ↔ _; rw [if_pos hj]; exact Iff.rfl
theorem J.r_astore {j : Nat} {x : Int} {l' : List J.V} (hc : J.cd k pc = some (.astore j, n, r, s, t)) (hj : j < ls.length) (hl : J.st1 ls j (J.R x) = l') : J.WP d k pc ls (J.R x :: st) h Q ↔ J.WP d k n l' st h Q := by
  subst hl; rw [J.at hc]; show J.SR _ _ _ _ _ _ _ _ (if j < ls.length then _ else none) ↔ _; rw [if_pos hj]; exact Iff.rfl
theorem J.r_iinc {j : Nat} {x c : Int} {l' : List J.V} (hc : J.cd k pc = some (.iinc j c, n, r, s, t)) (hl : ls[j]? = some (J.I x)) (hl' : ls.set j (J.I (J.w32 (x + c))) = l') : J.WP d k pc ls st h Q ↔ J.WP d k n l' st h Q := by subst hl'; rw [J.at hc, J.sx, hl]; exact Iff.rfl
theorem J.r_dupI {x : Int} (hc : J.cd k pc = some (.dup, n, r, s, t)) : J.WP d k pc ls (J.I x :: st) h Q ↔ J.WP d k n ls (J.I x :: J.I x :: st) h Q := J.at hc
theorem J.r_dupR {x : Int} (hc : J.cd k pc = some (.dup, n, r, s, t)) : J.WP d k pc ls (J.R x :: st) h Q ↔ J.WP d k n ls (J.R x :: J.R x :: st) h Q := J.at hc
theorem J.r_dupx1IR {x y : Int} (hc : J.cd k pc = some (.dup_x1, n, r, s, t)) : J.WP d k pc ls (J.I x :: J.R y :: st) h Q ↔ J.WP d k n ls (J.I x :: J.R y :: J.I x :: st) h Q := J.at hc
theorem J.r_dupx1II {x y : Int} (hc : J.cd k pc = some (.dup_x1, n, r, s, t)) : J.WP d k pc ls (J.I x :: J.I y :: st) h Q ↔ J.WP d k n ls (J.I x :: J.I y :: J.I x :: st) h Q := J.at hc
theorem J.r_dupx1RR {x y : Int} (hc : J.cd k pc = some (.dup_x1, n, r, s, t)) : J.WP d k pc ls (J.R x :: J.R y :: st) h Q ↔ J.WP d k n ls (J.R x :: J.R y :: J.R x :: st) h Q := J.at hc
theorem J.r_dup2L {x : Int} (hc : J.cd k pc = some (.dup2, n, r, s, t)) : J.WP d k pc ls (J.L x :: st) h Q ↔ J.WP d k n ls (J.L x :: J.L x :: st) h Q := J.at hc
theorem J.r_dup2IR {x y : Int} (hc : J.cd k pc = some (.dup2, n, r, s, t)) : J.WP d k pc ls (J.I x :: J.R y :: st) h Q ↔ J.WP d k n ls (J.I x :: J.R y :: J.I x :: J.R y :: st) h Q := J.at hc
theorem J.r_popI {x : Int} (hc : J.cd k pc = some (.pop, n, r, s, t)) : J.WP d k pc ls (J.I x :: st) h Q ↔ J.WP d k n ls st h Q := J.at hc
theorem J.r_popR {x : Int} (hc : J.cd k pc = some (.pop, n, r, s, t)) : J.WP d k pc ls (J.R x :: st) h Q ↔ J.WP d k n ls st h Q := J.at hc
theorem J.r_pop2 {x : Int} (hc : J.cd k pc = some (.pop2, n, r, s, t)) : J.WP d k pc ls (J.L x :: st) h Q ↔ J.WP d k n ls st h Q := J.at hc
theorem J.r_iadd {a b : Int} (hc : J.cd k pc = some (.iadd, n, r, s, t)) : J.WP d k pc ls (J.I b :: J.I a :: st) h Q ↔ J.WP d k n ls (J.I (J.w32 (a + b)) :: st) h Q := J.at hc
theorem J.r_isub {a b : Int} (hc : J.cd k pc = some (.isub, n, r, s, t)) : J.WP d k pc ls (J.I b :: J.I a :: st) h Q ↔ J.WP d k n ls (J.I (J.w32 (a - b)) :: st) h Q := J.at hc
theorem J.r_imul {a b : Int} (hc : J.cd k pc = some (.imul, n, r, s, t)) : J.WP d k pc ls (J.I b :: J.I a :: st) h Q ↔ J.WP d k n ls (J.I (J.w32 (a * b)) :: st) h Q := J.at hc
theorem J.r_iand {a b : Int} (hc : J.cd k pc = some (.iand, n, r, s, t)) : J.WP d k pc ls (J.I b :: J.I a :: st) h Q ↔ J.WP d k n ls (J.I (J.and32 a b) :: st) h Q := J.at hc
theorem J.r_ior {a b : Int} (hc : J.cd k pc = some (.ior, n, r, s, t)) : J.WP d k pc ls (J.I b :: J.I a :: st) h Q ↔ J.WP d k n ls (J.I (J.or32 a b) :: st) h Q := J.at hc
theorem J.r_ixor {a b : Int} (hc : J.cd k pc = some (.ixor, n, r, s, t)) : J.WP d k pc ls (J.I b :: J.I a :: st) h Q ↔ J.WP d k n ls (J.I (J.xor32 a b) :: st) h Q := J.at hc
theorem J.r_ishl {a b : Int} (hc : J.cd k pc = some (.ishl, n, r, s, t)) : J.WP d k pc ls (J.I b :: J.I a :: st) h Q ↔ J.WP d k n ls (J.I (J.shl32 a b) :: st) h Q := J.at hc
theorem J.r_ishr {a b : Int} (hc : J.cd k pc = some (.ishr, n, r, s, t)) : J.WP d k pc ls (J.I b :: J.I a :: st) h Q ↔ J.WP d k n ls (J.I (J.shr32 a b) :: st) h Q := J.at hc
theorem J.r_iushr {a b : Int} (hc : J.cd k pc = some (.iushr, n, r, s, t)) : J.WP d k pc ls (J.I b :: J.I a :: st) h Q ↔ J.WP d k n ls (J.I (J.ush32 a b) :: st) h Q := J.at hc
theorem J.r_ladd {a b : Int} (hc : J.cd k pc = some (.ladd, n, r, s, t)) : J.WP d k pc ls (J.L b :: J.L a :: st) h Q ↔ J.WP d k n ls (J.L (J.w64 (a + b)) :: st) h Q := J.at hc
theorem J.r_lsub {a b : Int} (hc : J.cd k pc = some (.lsub, n, r, s, t)) : J.WP d k pc ls (J.L b :: J.L a :: st) h Q ↔ J.WP d k n ls (J.L (J.w64 (a - b)) :: st) h Q := J.at hc
theorem J.r_lmul {a b : Int} (hc : J.cd k pc = some (.lmul, n, r, s, t)) : J.WP d k pc ls (J.L b :: J.L a :: st) h Q ↔ J.WP d k n ls (J.L (J.w64 (a * b)) :: st) h Q := J.at hc
theorem J.r_land {a b : Int} (hc : J.cd k pc = some (.land, n, r, s, t)) : J.WP d k pc ls (J.L b :: J.L a :: st) h Q ↔ J.WP d k n ls (J.L (J.and64 a b) :: st) h Q := J.at hc
theorem J.r_lor {a b : Int} (hc : J.cd k pc = some (.lor, n, r, s, t)) : J.WP d k pc ls (J.L b :: J.L a :: st) h Q ↔ J.WP d k n ls (J.L (J.or64 a b) :: st) h Q := J.at hc
theorem J.r_lxor {a b : Int} (hc : J.cd k pc = some (.lxor, n, r, s, t)) : J.WP d k pc ls (J.L b :: J.L a :: st) h Q ↔ J.WP d k n ls (J.L (J.xor64 a b) :: st) h Q := J.at hc
theorem J.r_lshl {a b : Int} (hc : J.cd k pc = some (.lshl, n, r, s, t)) : J.WP d k pc ls (J.I b :: J.L a :: st) h Q ↔ J.WP d k n ls (J.L (J.shl64 a b) :: st) h Q := J.at hc
theorem J.r_lshr {a b : Int} (hc : J.cd k pc = some (.lshr, n, r, s, t)) : J.WP d k pc ls (J.I b :: J.L a :: st) h Q ↔ J.WP d k n ls (J.L (J.shr64 a b) :: st) h Q := J.at hc
theorem J.r_lushr {a b : Int} (hc : J.cd k pc = some (.lushr, n, r, s, t)) : J.WP d k pc ls (J.I b :: J.L a :: st) h Q ↔ J.WP d k n ls (J.L (J.ush64 a b) :: st) h Q := J.at hc
theorem J.r_ineg {a : Int} (hc : J.cd k pc = some (.ineg, n, r, s, t)) : J.WP d k pc ls (J.I a :: st) h Q ↔ J.WP d k n ls (J.I (J.w32 (-a)) :: st) h Q := J.at hc
theorem J.r_lneg {a : Int} (hc : J.cd k pc = some (.lneg, n, r, s, t)) : J.WP d k pc ls (J.L a :: st) h Q ↔ J.WP d k n ls (J.L (J.w64 (-a)) :: st) h Q := J.at hc
theorem J.r_i2l {a : Int} (hc : J.cd k pc = some (.i2l, n, r, s, t)) : J.WP d k pc ls (J.I a :: st) h Q ↔ J.WP d k n ls (J.L (a) :: st) h Q := J.at hc
theorem J.r_l2i {a : Int} (hc : J.cd k pc = some (.l2i, n, r, s, t)) : J.WP d k pc ls (J.L a :: st) h Q ↔ J.WP d k n ls (J.I (J.w32 a) :: st) h Q := J.at hc
theorem J.r_i2b {a : Int} (hc : J.cd k pc = some (.i2b, n, r, s, t)) : J.WP d k pc ls (J.I a :: st) h Q ↔ J.WP d k n ls (J.I (J.i8 a) :: st) h Q := J.at hc
theorem J.r_i2c {a : Int} (hc : J.cd k pc = some (.i2c, n, r, s, t)) : J.WP d k pc ls (J.I a :: st) h Q ↔ J.WP d k n ls (J.I (a % 65536) :: st) h Q := J.at hc
theorem J.r_idiv {a b : Int} (hc : J.cd k pc = some (.idiv, n, r, s, t)) : J.WP d k pc ls (J.I b :: J.I a :: st) h Q ↔ J.nz b ∧ J.WP d k n ls (J.I (J.w32 (a.tdiv b)) :: st) h Q := (J.at hc).trans J.chkn
theorem J.r_irem {a b : Int} (hc : J.cd k pc = some (.irem, n, r, s, t)) : J.WP d k pc ls (J.I b :: J.I a :: st) h Q ↔ J.nz b ∧ J.WP d k n ls (J.I (a.tmod b) :: st) h Q := (J.at hc).trans J.chkn
theorem J.r_ldiv {a b : Int} (hc : J.cd k pc = some (.ldiv, n, r, s, t)) : J.WP d k pc ls (J.L b :: J.L a :: st) h Q ↔ J.nz b ∧ J.WP d k n ls (J.L (J.w64 (a.tdiv b)) :: st) h Q := (J.at hc).trans J.chkn
theorem J.r_lrem {a b : Int} (hc : J.cd k pc = some (.lrem, n, r, s, t)) : J.WP d k pc ls (J.L b :: J.L a :: st) h Q ↔ J.nz b ∧ J.WP d k n ls (J.L (a.tmod b) :: st) h Q := (J.at hc).trans J.chkn
theorem J.r_lcmp {a b : Int} (hc : J.cd k pc = some (.lcmp, n, r, s, t)) : J.WP d k pc ls (J.L b :: J.L a :: st) h Q ↔ J.WP d k n ls (J.I (if a < b then -1 else if a = b then 0 else 1) :: st) h Q := J.at hc
theorem J.r_goto {f : Int} (hc : J.cd k pc = some (.goto f, n, r, s, t)) : J.WP d k pc ls st h Q ↔ J.WP d k r ls st h Q := J.at hc
theorem J.swap_ite {c A B : Prop} {i1 : Decidable c} : (if (!decide c) = true then A else B) ↔ (if c then B else A) := by
  by_cases x : c <;> simp [x]
theorem J.dec_ite {c A B : Prop} {i1 : Decidable c} : (if decide c = true then A else B) ↔ (if c then A else B) := by
  by_cases x : c <;> simp [x]
theorem J.r_iceq {a b f : Int} (hc : J.cd k pc = some (.if_icmp .eq f, n, r, s, t)) : J.WP d k pc ls (J.I b :: J.I a :: st) h Q ↔ if a = b then J.WP d k r ls st h Q else J.WP d k n ls st h Q := (J.at hc).trans ((J.if_ite _).trans J.dec_ite)
theorem J.r_ifeq {a f : Int} (hc : J.cd k pc = some (.ifCond .eq f, n, r, s, t)) : J.WP d k pc ls (J.I a :: st) h Q ↔ if a = 0 then J.WP d k r ls st h Q else J.WP d k n ls st h Q := (J.at hc).trans ((J.if_ite _).trans J.dec_ite)
theorem J.r_aceq {a b f : Int} (hc : J.cd k pc = some (.if_acmp .eq f, n, r, s, t)) : J.WP d k pc ls (J.R b :: J.R a :: st) h Q ↔ if a = b then J.WP d k r ls st h Q else J.WP d k n ls st h Q := (J.at hc).trans ((J.if_ite _).trans J.dec_ite)
theorem J.r_icne {a b f : Int} (hc : J.cd k pc = some (.if_icmp .ne f, n, r, s, t)) : J.WP d k pc ls (J.I b :: J.I a :: st) h Q ↔ if a = b then J.WP d k n ls st h Q else J.WP d k r ls st h Q := (J.at hc).trans ((J.if_ite _).trans J.swap_ite)
theorem J.r_ifne {a f : Int} (hc : J.cd k pc = some (.ifCond .ne f, n, r, s, t)) : J.WP d k pc ls (J.I a :: st) h Q ↔ if a = 0 then J.WP d k n ls st h Q else J.WP d k r ls st h Q := (J.at hc).trans ((J.if_ite _).trans J.swap_ite)
theorem J.r_acne {a b f : Int} (hc : J.cd k pc = some (.if_acmp .ne f, n, r, s, t)) : J.WP d k pc ls (J.R b :: J.R a :: st) h Q ↔ if a = b then J.WP d k n ls st h Q else J.WP d k r ls st h Q := (J.at hc).trans ((J.if_ite _).trans J.swap_ite)
theorem J.r_iclt {a b f : Int} (hc : J.cd k pc = some (.if_icmp .lt f, n, r, s, t)) : J.WP d k pc ls (J.I b :: J.I a :: st) h Q ↔ if a < b then J.WP d k r ls st h Q else J.WP d k n ls st h Q := (J.at hc).trans ((J.if_ite _).trans J.dec_ite)
theorem J.r_iflt {a f : Int} (hc : J.cd k pc = some (.ifCond .lt f, n, r, s, t)) : J.WP d k pc ls (J.I a :: st) h Q ↔ if a < 0 then J.WP d k r ls st h Q else J.WP d k n ls st h Q := (J.at hc).trans ((J.if_ite _).trans J.dec_ite)
theorem J.r_icge {a b f : Int} (hc : J.cd k pc = some (.if_icmp .ge f, n, r, s, t)) : J.WP d k pc ls (J.I b :: J.I a :: st) h Q ↔ if a < b then J.WP d k n ls st h Q else J.WP d k r ls st h Q := (J.at hc).trans ((J.if_ite _).trans J.swap_ite)
theorem J.r_ifge {a f : Int} (hc : J.cd k pc = some (.ifCond .ge f, n, r, s, t)) : J.WP d k pc ls (J.I a :: st) h Q ↔ if a < 0 then J.WP d k n ls st h Q else J.WP d k r ls st h Q := (J.at hc).trans ((J.if_ite _).trans J.swap_ite)
theorem J.r_icgt {a b f : Int} (hc : J.cd k pc = some (.if_icmp .gt f, n, r, s, t)) : J.WP d k pc ls (J.I b :: J.I a :: st) h Q ↔ if a ≤ b then J.WP d k n ls st h Q else J.WP d k r ls st h Q := (J.at hc).trans ((J.if_ite _).trans J.swap_ite)
theorem J.r_ifgt {a f : Int} (hc : J.cd k pc = some (.ifCond .gt f, n, r, s, t)) : J.WP d k pc ls (J.I a :: st) h Q ↔ if a ≤ 0 then J.WP d k n ls st h Q else J.WP d k r ls st h Q := (J.at hc).trans ((J.if_ite _).trans J.swap_ite)
theorem J.r_icle {a b f : Int} (hc : J.cd k pc = some (.if_icmp .le f, n, r, s, t)) : J.WP d k pc ls (J.I b :: J.I a :: st) h Q ↔ if a ≤ b then J.WP d k r ls st h Q else J.WP d k n ls st h Q := (J.at hc).trans ((J.if_ite _).trans J.dec_ite)
theorem J.r_ifle {a f : Int} (hc : J.cd k pc = some (.ifCond .le f, n, r, s, t)) : J.WP d k pc ls (J.I a :: st) h Q ↔ if a ≤ 0 then J.WP d k r ls st h Q else J.WP d k n ls st h Q := (J.at hc).trans ((J.if_ite _).trans J.dec_ite)
theorem J.r_ifnull {a f : Int} (hc : J.cd k pc = some (.ifnull f, n, r, s, t)) : J.WP d k pc ls (J.R a :: st) h Q ↔ if a = 0 then J.WP d k r ls st h Q else J.WP d k n ls st h Q := (J.at hc).trans (J.if_ite _)
theorem J.r_ifnonnull {a f : Int} (hc : J.cd k pc = some (.ifnonnull f, n, r, s, t)) : J.WP d k pc ls (J.R a :: st) h Q ↔ if a = 0 then J.WP d k n ls st h Q else J.WP d k r ls st h Q := (J.at hc).trans (J.if_ite _)
theorem J.r_tsw {x dd lo hi : Int} {offs : Array Int} (hc : J.cd k pc = some (.tableswitch dd lo hi offs, n, r, s, t)) : J.WP d k pc ls (J.I x :: st) h Q ↔ J.WP d k (J.tsw r dd lo hi offs x) ls st h Q := J.at hc
theorem J.r_lsw {x dd : Int} {ps : Array (Int × Int)} (hc : J.cd k pc = some (.lookupswitch dd ps, n, r, s, t)) : J.WP d k pc ls (J.I x :: st) h Q ↔ J.WP d k (J.lsw r dd ps x) ls st h Q := J.at hc
theorem J.nk {P : J.Pd} {a b : Prop} {r : Nat} {i2 : Decidable b} {i3 : Decidable a} {x y : Option J.Rs} {d k pc n : Nat} {ls : List J.V} {h : J.H} {Q : J.O → J.H → Prop} (hr : r < 554) : J.SR P d k pc n ls h Q (if 554 ≤ r then (if a then x else none) else if b then y else none) ↔ b ∧ J.SR P d k pc n ls h Q y := by
  rw [if_neg (by omega)]; exact J.chk
theorem J.r_getk {a : Int} {x : Nat} (hc : J.cd k pc = some (.getfield x, n, r, s, t)) (hr : 554 ≤ r := by decide) : J.WP d k pc ls (J.R a :: st) h Q ↔ J.isK h a = true ∧ J.WP d k n ls (J.ty t (J.kf h a r) :: st) h Q := by
  rw [J.at hc]; show J.SR _ _ _ _ _ _ _ _ (if 554 ≤ r then (if J.isK h a = true then _ else none) else _) ↔ _; rw [if_pos hr]; exact J.chk
theorem J.r_kord {x : Nat} {a : Int} (hc : J.cd k pc = some (.invokevirtual x, n, 9003, s, t)) (hw : st.length ≤ 7 := by exact Nat.le_of_ble_eq_true rfl) : J.WP d k pc ls (J.R a :: st) h Q ↔ J.isK h a = true ∧ 0 < d ∧ J.WP (d - 1) 451 0 [J.R a] [] h (J.af J.WP d k pc n ls st Q) := by
  rw [J.at hc]; show J.SR _ _ _ _ _ _ _ _ (if J.isK h a = true ∧ st.length ≤ 7 then _ else none) ↔ _; rw [J.chk]; exact ⟨fun q => ⟨q.1.1, q.2⟩, fun q => ⟨⟨q.1, hw⟩, q.2⟩⟩
theorem J.r_getI {a : Int} {x : Nat} (hc : J.cd k pc = some (.getfield x, n, r, s, 0)) (hr : r < 554 := by decide) : J.WP d k pc ls (J.R a :: st) h Q ↔ J.sb (J.cl h a) s = true ∧ J.WP d k n ls (J.I (J.gv h a r) :: st) h Q := (J.at hc).trans (J.nk hr)
theorem J.r_getsI {x : Nat} (hc : J.cd k pc = some (.getstatic x, n, r, s, 0)) : J.WP d k pc ls st h Q ↔ J.WP d k n ls (J.I (J.gv h (-1) r) :: st) h Q := J.at hc
theorem J.r_getZ {a : Int} {x : Nat} (hc : J.cd k pc = some (.getfield x, n, r, s, 3)) (hr : r < 554 := by decide) : J.WP d k pc ls (J.R a :: st) h Q ↔ J.sb (J.cl h a) s = true ∧ J.WP d k n ls (J.I (J.gv h a r) :: st) h Q := (J.at hc).trans (J.nk hr)
theorem J.r_getsZ {x : Nat} (hc : J.cd k pc = some (.getstatic x, n, r, s, 3)) : J.WP d k pc ls st h Q ↔ J.WP d k n ls (J.I (J.gv h (-1) r) :: st) h Q := J.at hc
theorem J.r_getB {a : Int} {x : Nat} (hc : J.cd k pc = some (.getfield x, n, r, s, 4)) (hr : r < 554 := by decide) : J.WP d k pc ls (J.R a :: st) h Q ↔ J.sb (J.cl h a) s = true ∧ J.WP d k n ls (J.I (J.gv h a r) :: st) h Q := (J.at hc).trans (J.nk hr)
theorem J.r_getsB {x : Nat} (hc : J.cd k pc = some (.getstatic x, n, r, s, 4)) : J.WP d k pc ls st h Q ↔ J.WP d k n ls (J.I (J.gv h (-1) r) :: st) h Q := J.at hc
theorem J.r_getL {a : Int} {x : Nat} (hc : J.cd k pc = some (.getfield x, n, r, s, 1)) (hr : r < 554 := by decide) : J.WP d k pc ls (J.R a :: st) h Q ↔ J.sb (J.cl h a) s = true ∧ J.WP d k n ls (J.L (J.gv h a r) :: st) h Q := (J.at hc).trans (J.nk hr)
theorem J.r_getsL {x : Nat} (hc : J.cd k pc = some (.getstatic x, n, r, s, 1)) : J.WP d k pc ls st h Q ↔ J.WP d k n ls (J.L (J.gv h (-1) r) :: st) h Q := J.at hc
theorem J.r_getR {a : Int} {x : Nat} (hc : J.cd k pc = some (.getfield x, n, r, s, 2)) (hr : r < 554 := by decide) : J.WP d k pc ls (J.R a :: st) h Q ↔ J.sb (J.cl h a) s = true ∧ J.WP d k n ls (J.R (J.gv h a r) :: st) h Q := (J.at hc).trans (J.nk hr)
theorem J.r_getsR {x : Nat} (hc : J.cd k pc = some (.getstatic x, n, r, s, 2)) : J.WP d k pc ls st h Q ↔ J.WP d k n ls (J.R (J.gv h (-1) r) :: st) h Q := J.at hc
theorem J.r_putI {a y : Int} {x : Nat} (hc : J.cd k pc = some (.putfield x, n, r, s, 0)) : J.WP d k pc ls (J.I y :: J.R a :: st) h Q ↔ (J.sb (J.cl h a) s = true ∧ J.cl h a < 300) ∧ J.WP d k n ls st (J.sv h a r y) Q := (J.at hc).trans (J.chk.trans (and_congr_left fun _ => ⟨fun q => ⟨q.1, q.2.1⟩, fun q => ⟨q.1, q.2, by decide, by decide, rfl⟩⟩))
theorem J.r_putZ {a y : Int} {x : Nat} (hc : J.cd k pc = some (.putfield x, n, r, s, 3)) : J.WP d k pc ls (J.I y :: J.R a :: st) h Q ↔ (J.sb (J.cl h a) s = true ∧ J.cl h a < 300 ∧ J.zo y) ∧ J.WP d k n ls st (J.sv h a r y) Q := (J.at hc).trans (J.chk.trans (and_congr_left fun _ => ⟨fun q => ⟨q.1, q.2.1, by have := q.2.2.2.2; simpa [J.fit] using this⟩, fun q => ⟨q.1, q.2.1, by decide, by decide, by simpa [J.fit] using q.2.2⟩⟩))
theorem J.r_putB {a y : Int} {x : Nat} (hc : J.cd k pc = some (.putfield x, n, r, s, 4)) : J.WP d k pc ls (J.I y :: J.R a :: st) h Q ↔ (J.sb (J.cl h a) s = true ∧ J.cl h a < 300 ∧ J.br y) ∧ J.WP d k n ls st (J.sv h a r y) Q := (J.at hc).trans (J.chk.trans (and_congr_left fun _ => ⟨fun q => ⟨q.1, q.2.1, by have := q.2.2.2.2; simpa [J.fit] using this⟩, fun q => ⟨q.1, q.2.1, by decide, by decide, by simpa [J.fit] using q.2.2⟩⟩))
theorem J.r_putL {a y : Int} {x : Nat} (hc : J.cd k pc = some (.putfield x, n, r, s, 1)) : J.WP d k pc ls (J.L y :: J.R a :: st) h Q ↔ (J.sb (J.cl h a) s = true ∧ J.cl h a < 300) ∧ J.WP d k n ls st (J.sv h a r y) Q := (J.at hc).trans (J.chk.trans (and_congr_left fun _ => ⟨fun q => ⟨q.1, q.2.1⟩, fun q => ⟨q.1, q.2, rfl⟩⟩))
theorem J.r_putR {a y : Int} {x : Nat} (hc : J.cd k pc = some (.putfield x, n, r, s, 2)) : J.WP d k pc ls (J.R y :: J.R a :: st) h Q ↔ (J.sb (J.cl h a) s = true ∧ J.cl h a < 300) ∧ J.WP d k n ls st (J.sv h a r y) Q := (J.at hc).trans (J.chk.trans (and_congr_left fun _ => ⟨fun q => ⟨q.1, q.2.1⟩, fun q => ⟨q.1, q.2, rfl⟩⟩))
theorem J.r_iaload {a j : Int} (hc : J.cd k pc = some (.iaload, n, r, s, t)) : J.WP d k pc ls (J.I j :: J.R a :: st) h Q ↔ (J.isA (J.cl h a) 0 = true ∧ J.rg j (J.ln h a)) ∧ J.WP d k n ls (J.I (J.gv h a j) :: st) h Q := (J.at hc).trans J.chk
theorem J.r_laload {a j : Int} (hc : J.cd k pc = some (.laload, n, r, s, t)) : J.WP d k pc ls (J.I j :: J.R a :: st) h Q ↔ (J.isA (J.cl h a) 1 = true ∧ J.rg j (J.ln h a)) ∧ J.WP d k n ls (J.L (J.gv h a j) :: st) h Q := (J.at hc).trans J.chk
theorem J.r_baload {a j : Int} (hc : J.cd k pc = some (.baload, n, r, s, t)) : J.WP d k pc ls (J.I j :: J.R a :: st) h Q ↔ (J.isA (J.cl h a) 3 = true ∧ J.rg j (J.ln h a)) ∧ J.WP d k n ls (J.I (J.gv h a j) :: st) h Q := (J.at hc).trans J.chk
theorem J.r_aaload {a j : Int} (hc : J.cd k pc = some (.aaload, n, r, s, t)) : J.WP d k pc ls (J.I j :: J.R a :: st) h Q ↔ (J.isA (J.cl h a) 2 = true ∧ J.rg j (J.ln h a)) ∧ J.WP d k n ls (J.R (J.gv h a j) :: st) h Q := (J.at hc).trans J.chk
theorem J.r_iastore {a j y : Int} (hc : J.cd k pc = some (.iastore, n, r, s, t)) : J.WP d k pc ls (J.I y :: J.I j :: J.R a :: st) h Q ↔ (J.cl h a = 201 ∧ J.rg j (J.ln h a)) ∧ J.WP d k n ls st (J.sv h a j y) Q := (J.at hc).trans J.chk
theorem J.r_lastore {a j y : Int} (hc : J.cd k pc = some (.lastore, n, r, s, t)) : J.WP d k pc ls (J.L y :: J.I j :: J.R a :: st) h Q ↔ (J.cl h a = 202 ∧ J.rg j (J.ln h a)) ∧ J.WP d k n ls st (J.sv h a j y) Q := (J.at hc).trans J.chk
theorem J.r_bastore {a j y : Int} (hc : J.cd k pc = some (.bastore, n, r, s, t)) : J.WP d k pc ls (J.I y :: J.I j :: J.R a :: st) h Q ↔ (((J.cl h a = 203 ∧ J.zo y) ∨ (J.cl h a = 204 ∧ J.br y)) ∧ J.rg j (J.ln h a)) ∧ J.WP d k n ls st (J.sv h a j y) Q := (J.at hc).trans J.chk
theorem J.r_aastore {a j y : Int} (hc : J.cd k pc = some (.aastore, n, r, s, t)) : J.WP d k pc ls (J.R y :: J.I j :: J.R a :: st) h Q ↔ (J.cl h a < 300 ∧ J.isA (J.cl h a) 2 = true ∧ J.rg j (J.ln h a) ∧ J.aok h a y) ∧ J.WP d k n ls st (J.sv h a j y) Q := (J.at hc).trans (J.chk.trans (and_congr_left fun _ => ⟨fun q => ⟨q.1, q.2.1, ⟨q.2.2.1, q.2.2.2.1⟩, q.2.2.2.2⟩, fun q => ⟨q.1, q.2.1, q.2.2.1.1, q.2.2.1.2, q.2.2.2⟩⟩))
theorem J.r_alen {a : Int} (hc : J.cd k pc = some (.arraylength, n, r, s, t)) : J.WP d k pc ls (J.R a :: st) h Q ↔ J.ia (J.cl h a) = true ∧ J.WP d k n ls (J.I (J.ln h a) :: st) h Q := (J.at hc).trans J.chk
theorem J.r_new {x : Nat} (hc : J.cd k pc = some (.new x, n, r, s, t)) : J.WP d k pc ls st h Q ↔ J.us h + s ≤ J.UM ∧ J.WP d k n ls (J.R (J.nx h) :: st) (J.nw h r 0 s) Q := (J.at hc).trans J.chk
theorem J.r_newarray {y : ArrayType} {z : Int} (hc : J.cd k pc = some (.newarray y, n, r, s, t)) : J.WP d k pc ls (J.I z :: st) h Q ↔ (0 ≤ z ∧ J.us h + 7 + z ≤ J.UM) ∧ J.WP d k n ls (J.R (J.nx h) :: st) (J.nw h (J.atc y) z (7 + z)) Q := (J.at hc).trans J.chk
theorem J.r_anewarray {x : Nat} {z : Int} (hc : J.cd k pc = some (.anewarray x, n, r, s, t)) : J.WP d k pc ls (J.I z :: st) h Q ↔ (0 ≤ z ∧ J.us h + 7 + z ≤ J.UM) ∧ J.WP d k n ls (J.R (J.nx h) :: st) (J.nw h t.toNat z (7 + z)) Q := (J.at hc).trans J.chk
theorem J.r_cast {x : Nat} {a : Int} (hc : J.cd k pc = some (.checkcast x, n, r, s, t)) : J.WP d k pc ls (J.R a :: st) h Q ↔ (J.no a ∨ J.sb (J.cl h a) r = true) ∧ J.WP d k n ls (J.R a :: st) h Q := (J.at hc).trans J.chk
theorem J.r_inst {x : Nat} {a : Int} (hc : J.cd k pc = some (.instanceof x, n, r, s, t)) : J.WP d k pc ls (J.R a :: st) h Q ↔ J.iok h a r ∧ J.WP d k n ls (J.I (if a ≠ 0 ∧ J.sb (J.cl h a) r = true then 1 else 0) :: st) h Q := (J.at hc).trans J.chk
theorem J.r_ret (hc : J.cd k pc = some (.return_, n, r, s, t)) (hh : J.hd k pc = none) : J.WP d k pc ls [] h Q ↔ Q (Sum.inl none) h := (J.at hc).trans ⟨fun q => q.2, fun q => ⟨hh, q⟩⟩
theorem J.r_lret {x : Int} (hc : J.cd k pc = some (.lreturn, n, r, s, t)) (hh : J.hd k pc = none) : J.WP d k pc ls [J.L x] h Q ↔ Q (Sum.inl (some (J.L x))) h := (J.at hc).trans ⟨fun q => q.2, fun q => ⟨hh, q⟩⟩
theorem J.r_aret {x : Int} (hc : J.cd k pc = some (.areturn, n, r, s, t)) (hh : J.hd k pc = none) : J.WP d k pc ls [J.R x] h Q ↔ Q (Sum.inl (some (J.R x))) h := (J.at hc).trans ⟨fun q => q.2, fun q => ⟨hh, q⟩⟩
theorem J.r_iret {x : Int} (hc : J.cd k pc = some (.ireturn, n, r, s, 0)) (hh : J.hd k pc = none) : J.WP d k pc ls [J.I x] h Q ↔ Q (Sum.inl (some (J.I x))) h := (J.at hc).trans ⟨fun q => q.2, fun q => ⟨hh, q⟩⟩
theorem J.r_iretZ {x : Int} (hc : J.cd k pc = some (.ireturn, n, r, s, 3)) (hh : J.hd k pc = none) : J.WP d k pc ls [J.I x] h Q ↔ J.zo x ∧ Q (Sum.inl (some (J.I x))) h := (J.at hc).trans (J.chk.trans ⟨fun q => ⟨by have := q.1; simpa [J.fit] using this, q.2.2⟩, fun q => ⟨by simpa [J.fit] using q.1, hh, q.2⟩⟩)
theorem J.r_iretB {x : Int} (hc : J.cd k pc = some (.ireturn, n, r, s, 4)) (hh : J.hd k pc = none) : J.WP d k pc ls [J.I x] h Q ↔ J.br x ∧ Q (Sum.inl (some (J.I x))) h := (J.at hc).trans (J.chk.trans ⟨fun q => ⟨by have := q.1; simpa [J.fit] using this, q.2.2⟩, fun q => ⟨by simpa [J.fit] using q.1, hh, q.2⟩⟩)
theorem J.r_iretC {x : Int} (hc : J.cd k pc = some (.ireturn, n, r, s, 5)) (hh : J.hd k pc = none) : J.WP d k pc ls [J.I x] h Q ↔ J.cr x ∧ Q (Sum.inl (some (J.I x))) h := (J.at hc).trans (J.chk.trans ⟨fun q => ⟨by have := q.1; simpa [J.fit] using this, q.2.2⟩, fun q => ⟨by simpa [J.fit] using q.1, hh, q.2⟩⟩)
theorem J.r_throw {x : Int} (hc : J.cd k pc = some (.athrow, n, r, s, t)) (hh : J.hd k pc = none) : J.WP d k pc ls [J.R x] h Q ↔ J.cl h x = 21 ∧ Q (Sum.inr x) h := (J.at hc).trans (J.chk.trans ⟨fun q => ⟨q.1, q.2.2⟩, fun q => ⟨q.1, hh, q.2⟩⟩)
theorem J.chk7 {P : J.Pd} {c : Prop} {st : List J.V} {inst : Decidable (st.length ≤ 7 ∧ c)} {x : Option J.Rs} {d k pc n : Nat} {ls : List J.V} {h : J.H} {Q : J.O → J.H → Prop} (hw : st.length ≤ 7) : J.SR P d k pc n ls h Q (if st.length ≤ 7 ∧ c then x else none) ↔ c ∧ J.SR P d k pc n ls h Q x := J.chk.trans ⟨fun q => ⟨q.1.2, q.2⟩, fun q => ⟨⟨hw, q.1⟩, q.2⟩⟩
theorem J.vld_iff {h : J.H} {a q m : Int} : J.vld h a q m = true ↔ ∀ i : Int, q ≤ i → i < q + m → J.gv h a i = 0 ∨ J.okK (J.cl h (J.gv h a i)) = true := by
  unfold J.vld
  rw [List.all_eq_true]
  constructor
  · intro H i h1 h2
    have := H (i - q).toNat (List.mem_range.mpr (by omega))
    have e : q + ((i - q).toNat : Int) = i := by omega
    rw [e] at this
    simpa using this
  · intro H i hi
    have := List.mem_range.mp hi
    have := H (q + i) (by omega) (by omega)
    simpa using this
theorem J.r_acopy {x : Nat} {m j b q a : Int} (hc : J.cd k pc = some (.invokestatic x, n, 2000, s, t)) (hw : st.length ≤ 7 := by exact Nat.le_of_ble_eq_true rfl) : J.WP d k pc ls (J.I m :: J.I j :: J.R b :: J.I q :: J.R a :: st) h Q ↔ (0 ≤ m ∧ 0 ≤ q ∧ 0 ≤ j ∧ q + m ≤ J.ln h a ∧ j + m ≤ J.ln h b ∧ J.cl h b < 300 ∧ ((J.isA (J.cl h a) 3 = true ∧ J.cl h b = 204 ∧ J.cl h a ≠ 203) ∨ (J.isA (J.cl h a) 2 = true ∧ J.cl h b = 214 ∧ J.vld h a q m = true))) ∧ J.WP d k n ls st (J.cpy h a q b j m) Q := (J.at hc).trans (J.chk7 hw)
theorem J.r_getc {x : Nat} {a : Int} (hc : J.cd k pc = some (.invokevirtual x, n, 9001, s, t)) (hw : st.length ≤ 7 := by exact Nat.le_of_ble_eq_true rfl) : J.WP d k pc ls (J.R a :: st) h Q ↔ (J.cl h a = 214 ∨ J.cl h a = 311) ∧ J.WP d k n ls (J.R (J.gv h (-1) 900) :: st) h Q := (J.at hc).trans (J.chk7 hw)
theorem J.r_clone {x : Nat} {a : Int} (hc : J.cd k pc = some (.invokevirtual x, n, 9002, s, t)) (hw : st.length ≤ 7 := by exact Nat.le_of_ble_eq_true rfl) : J.WP d k pc ls (J.R a :: st) h Q ↔ (J.cl h a = 312 ∧ J.us h + 7 + J.ln h a ≤ J.UM) ∧ J.WP d k n ls (J.R (J.nx h) :: st) (J.cpy (J.nw h 215 (J.ln h a) (7 + J.ln h a)) a 0 (J.nx h) 0 (J.ln h a)) Q := (J.at hc).trans (J.chk7 hw)
theorem J.r_cloneB {x : Nat} {a : Int} (hc : J.cd k pc = some (.invokevirtual x, n, 9004, s, t)) (hw : st.length ≤ 7 := by exact Nat.le_of_ble_eq_true rfl) : J.WP d k pc ls (J.R a :: st) h Q ↔ (J.cl h a = 204 ∧ J.us h + 7 + J.ln h a ≤ J.UM) ∧ J.WP d k n ls (J.R (J.nx h) :: st) (J.cpy (J.nw h 204 (J.ln h a) (7 + J.ln h a)) a 0 (J.nx h) 0 (J.ln h a)) Q := (J.at hc).trans (J.chk7 hw)
theorem J.sel_one {v c k m : Nat} (hs : (J.selT.getD (v / 50) []).getD (v % 50) [] = [(c, k, m)]) : J.sel c v = some (k, m) ∧ ∀ c2, c2 ≠ c → J.sel c2 v = none := by
  unfold J.sel
  rw [hs]
  refine ⟨by simp, fun c2 h => ?_⟩
  have : (c2 == c) = false := by simpa using h
  simp [List.lookup, this]
theorem J.tsw_d {pc : Nat} {d lo hi : Int} {offs : Array Int} {x : Int} (h : x < lo ∨ hi < x) : J.tsw pc d lo hi offs x = ((pc : Int) + d).toNat := by unfold J.tsw; rw [if_pos h]
theorem J.lk_none {x : Int} : ∀ {l : List (Int × Int)}, (∀ q ∈ l, x ≠ q.1) → l.lookup x = none
  | [], _ => rfl
  | (a, b) :: l, h => by
    have h1 : (x == a) = false := by simpa using h (a, b) List.mem_cons_self
    simp only [List.lookup, h1]
    exact J.lk_none fun q hq => h q (List.mem_cons_of_mem _ hq)
theorem J.lsw_d {pc : Nat} {d : Int} {ps : Array (Int × Int)} {x : Int} (h : ∀ q ∈ ps.toList, x ≠ q.1) : J.lsw pc d ps x = ((pc : Int) + d).toNat := by unfold J.lsw; rw [J.lk_none h]; rfl
/-- calls -/
theorem J.r_stat {x : Nat} {l0 rest : List J.V} (hc : J.cd k pc = some (.invokestatic x, n, r, s, t)) (hr : r < 2000) (hs : s ≤ st.length) (hl : J.ent s t st = l0) (hd : st.drop s = rest) (hw : rest.length ≤ 7) (hm : l0.length = t.toNat := by rfl) : J.WP d k pc ls st h Q ↔ 0 < d ∧ J.WP (d - 1) r 0 l0 [] h (J.af J.WP d k pc n ls rest Q) := by
  subst hl; subst hd; rw [J.at hc]; show J.SR _ _ _ _ _ _ _ _ (if r < 2000 then (if s ≤ st.length ∧ (st.drop s).length ≤ 7 ∧ (J.ent s t st).length = t.toNat then _ else none) else _) ↔ _; rw [if_pos hr, if_pos ⟨hs, hw, hm⟩]; exact Iff.rfl
theorem J.r_spec {x : Nat} {a : Int} {l0 rest : List J.V} (hc : J.cd k pc = some (.invokespecial x, n, r, s, t)) (hr : r < 2000) (hs : 0 < s ∧ s ≤ st.length) (ha : st.drop (s - 1) = J.R a :: rest) (hl : J.ent s t st = l0) (hw : rest.length ≤ 7) (hm : l0.length = t.toNat := by rfl) : J.WP d k pc ls st h Q ↔ J.ik (J.cl h a) = true ∧ 0 < d ∧ J.WP (d - 1) r 0 l0 [] h (J.af J.WP d k pc n ls rest Q) := by
  have e1 : st.drop s = rest := by
    have e0 : st.drop s = (st.drop (s - 1)).drop 1 := by rw [List.drop_drop]; congr 1; omega
    rw [e0, ha]; rfl
  subst hl; rw [J.at hc]; show J.SR _ _ _ _ _ _ _ _ (if r < 2000 then _ else _) ↔ _; rw [if_pos hr, ha]; show J.SR _ _ _ _ _ _ _ _ (if 0 < s ∧ s ≤ st.length ∧ J.ik (J.cl h a) = true ∧ (st.drop s).length ≤ 7 ∧ (J.ent s t st).length = t.toNat then _ else none) ↔ _; rw [J.chk, e1]; exact ⟨fun q => ⟨q.1.2.2.1, q.2⟩, fun q => ⟨⟨hs.1, hs.2, q.1, hw, hm⟩, q.2⟩⟩
theorem J.r_exc {x : Nat} {a : Int} (hc : J.cd k pc = some (.invokespecial x, n, 2004, s, t)) (hw : st.length ≤ 7 := by exact Nat.le_of_ble_eq_true rfl) : J.WP d k pc ls (J.R a :: st) h Q ↔ (J.cl h a = 21 ∧ J.gv h a 168 = 0) ∧ J.WP d k n ls st (J.ex h a) Q := (J.at hc).trans (J.chk7 hw)
theorem J.r_obj {x : Nat} {a : Int} (hc : J.cd k pc = some (.invokespecial x, n, 2005, s, t)) (hw : st.length ≤ 7 := by exact Nat.le_of_ble_eq_true rfl) : J.WP d k pc ls (J.R a :: st) h Q ↔ J.ik (J.cl h a) = true ∧ J.WP d k n ls st h Q := (J.at hc).trans (J.chk7 hw)
theorem J.r_virt {x k2 m : Nat} {a : Int} {l0 rest : List J.V} (hc : J.cd k pc = some (.invokevirtual x, n, r, s, t)) (ha : st.drop s = J.R a :: rest) (c : Nat) (hq : J.cl h a = c) (hs : J.sel c r = some (k2, m)) (hk : k2 < 2000) (hl : J.ent (s + 1) m st = l0) (hw : rest.length ≤ 7) (hm : l0.length = m := by rfl) (hr : r < 9000 := by decide) : J.WP d k pc ls st h Q ↔ 0 < d ∧ J.WP (d - 1) k2 0 l0 [] h (J.af J.WP d k pc n ls rest Q) := by
  subst hl; subst hq; rw [J.at hc]; show J.SR _ _ _ _ _ _ _ _ (if r = 9001 then _ else if r = 9002 then _ else if r = 9003 then _ else if r = 9004 then _ else _) ↔ _; rw [if_neg (by omega), if_neg (by omega), if_neg (by omega), if_neg (by omega), ha]; dsimp only; rw [hs]; dsimp only; rw [if_pos ⟨hk, hw, hm⟩]; exact Iff.rfl
theorem J.r_virt1 {x k2 m : Nat} {a : Int} {l0 rest : List J.V} (c : Nat) (hc : J.cd k pc = some (.invokevirtual x, n, r, s, t)) (ha : st.drop s = J.R a :: rest) (hs : (J.selT.getD (r / 50) []).getD (r % 50) [] = [(c, k2, m)]) (hk : k2 < 2000) (hl : J.ent (s + 1) m st = l0) (hw : rest.length ≤ 7) (hm : l0.length = m := by rfl) (hr : r < 9000 := by decide) : J.WP d k pc ls st h Q ↔ J.cl h a = c ∧ 0 < d ∧ J.WP (d - 1) k2 0 l0 [] h (J.af J.WP d k pc n ls rest Q) := by
  by_cases hq : J.cl h a = c
  · rw [J.r_virt hc ha c hq (J.sel_one hs).1 hk hl hw hm hr]; exact ⟨fun q => ⟨hq, q⟩, fun q => q.2⟩
  · rw [J.at hc]; show J.SR _ _ _ _ _ _ _ _ (if r = 9001 then _ else if r = 9002 then _ else if r = 9003 then _ else if r = 9004 then _ else _) ↔ _; rw [if_neg (by omega), if_neg (by omega), if_neg (by omega), if_neg (by omega), ha]; dsimp only; rw [(J.sel_one hs).2 _ hq]; exact ⟨fun q => q.elim, fun q => absurd q.1 hq⟩
theorem J.af_v {P : J.Pd} {d k pc n : Nat} {ls st : List J.V} {Q : J.O → J.H → Prop} {h : J.H} : J.af P d k pc n ls st Q (Sum.inl none) h ↔ P d k n ls st h Q := Iff.rfl
theorem J.af_s {P : J.Pd} {d k pc n : Nat} {ls st : List J.V} {Q : J.O → J.H → Prop} {h : J.H} {v : J.V} : J.af P d k pc n ls st Q (Sum.inl (some v)) h ↔ P d k n ls (v :: st) h Q := Iff.rfl
theorem J.af_t {P : J.Pd} {d k pc n : Nat} {ls st : List J.V} {Q : J.O → J.H → Prop} {h : J.H} {e : Int} (hh : J.hd k pc = none) : J.af P d k pc n ls st Q (Sum.inr e) h ↔ J.cl h e = 21 ∧ Q (Sum.inr e) h := by unfold J.af; rw [hh]
end
end
section
/-! what every run keeps: classes and lengths of what is there, the constants; what is new lies behind -/
set_option maxRecDepth 100000
/-- a heap as it should be: nothing at or below 0, nothing behind the end -/
def J.Ok (h : J.H) : Prop := (∀ x : Int, x ≤ 0 → J.cl h x = 0) ∧ (∀ x : Int, J.nx h ≤ x → J.cl h x = 0) ∧ 0 < J.nx h
def J.Le (h h' : J.H) : Prop := J.nx h ≤ J.nx h' ∧ (∀ x : Int, x < J.nx h → J.cl h' x = J.cl h x ∧ J.ln h' x = J.ln h x) ∧ ∀ i : Int, J.gv h' (-1) i = J.gv h (-1) i
theorem J.Le.refl (h : J.H) : J.Le h h := ⟨Int.le_refl _, fun _ _ => ⟨rfl, rfl⟩, fun _ => rfl⟩
theorem J.Le.trans {a b c : J.H} (h1 : J.Le a b) (h2 : J.Le b c) : J.Le a c := ⟨Int.le_trans h1.1 h2.1, fun x hx => ⟨((h2.2.1 x (by have := h1.1; omega)).1).trans (h1.2.1 x hx).1, ((h2.2.1 x (by have := h1.1; omega)).2).trans (h1.2.1 x hx).2⟩, fun i => (h2.2.2 i).trans (h1.2.2 i)⟩
theorem J.Ok_sv {h : J.H} (hok : J.Ok h) {a i x : Int} (ha : J.cl h a ≠ 0) : J.Ok (J.sv h a i x) ∧ J.Le h (J.sv h a i x) := by
  refine ⟨hok, Int.le_refl _, fun _ _ => ⟨rfl, rfl⟩, fun j => ?_⟩
  rw [J.gv_sv, if_neg]
  intro z
  exact ha (hok.1 a (by omega))
theorem J.Ok_nw {h : J.H} (hok : J.Ok h) {c : Nat} {n w : Int} : J.Ok (J.nw h c n w) ∧ J.Le h (J.nw h c n w) := by
  have h3 := hok.2.2
  refine ⟨⟨fun x hx => ?_, fun x hx => ?_, ?_⟩, ?_, fun x hx => ⟨?_, ?_⟩, fun j => ?_⟩
  · rw [J.cl_nw, if_neg (by omega)]; exact hok.1 x hx
  · rw [J.nx_nw] at hx; rw [J.cl_nw, if_neg (by omega)]; exact hok.2.1 x (by omega)
  · rw [J.nx_nw]; omega
  · rw [J.nx_nw]; omega
  · rw [J.cl_nw, if_neg (by omega)]
  · rw [J.ln_nw, if_neg (by omega)]
  · rw [J.gv_nw, if_neg (by omega)]
theorem J.Ok_cpy {h : J.H} (hok : J.Ok h) {a i b j n : Int} (hb : J.cl h b ≠ 0) : J.Ok (J.cpy h a i b j n) ∧ J.Le h (J.cpy h a i b j n) := by
  refine ⟨hok, Int.le_refl _, fun _ _ => ⟨rfl, rfl⟩, fun y => ?_⟩
  show (if (-1 : Int) = b ∧ _ then _ else J.gv h (-1) y) = _
  rw [if_neg]
  intro z
  exact hb (hok.1 b (by omega))
theorem J.Ok_ex {h : J.H} (hok : J.Ok h) {a : Int} (ha : J.cl h a ≠ 0) : J.Ok (J.ex h a) ∧ J.Le h (J.ex h a) := by
  unfold J.ex
  have h1 := J.Ok_sv hok (i := 164) (x := a) ha
  have h2 := J.Ok_sv h1.1 (a := a) (i := 165) (x := J.gv h (-1) 3) ha
  have h3 := J.Ok_sv h2.1 (a := a) (i := 166) (x := J.gv h (-1) 4) ha
  exact ⟨h3.1, h1.2.trans (h2.2.trans h3.2)⟩
theorem J.Ok_cl {h : J.H} (hok : J.Ok h) {c : Nat} {a n w i j m : Int} (hc : c ≠ 0) : J.Ok (J.cpy (J.nw h c n w) a i (J.nx h) j m) ∧ J.Le h (J.cpy (J.nw h c n w) a i (J.nx h) j m) := by
  have h1 := J.Ok_nw hok (c := c) (n := n) (w := w)
  have h2 := J.Ok_cpy h1.1 (a := a) (i := i) (b := J.nx h) (j := j) (n := m) (by rw [J.cl_nw, if_pos rfl]; exact hc)
  exact ⟨h2.1, h1.2.trans h2.2⟩
def J.Gd (h : J.H) (x : Option J.Rs) : Prop := match x with
  | some (Sum.inl (_, _, _, h')) => J.Ok h' ∧ J.Le h h'
  | some (Sum.inr (Sum.inr (_, h'))) => J.Ok h' ∧ J.Le h h'
  | _ => True
theorem J.Gd_if {h : J.H} {c : Prop} {i : Decidable c} {x y : Option J.Rs} (h1 : c → J.Gd h x) (h2 : ¬ c → J.Gd h y) : J.Gd h (if c then x else y) := by
  by_cases hc : c
  · rw [if_pos hc]; exact h1 hc
  · rw [if_neg hc]; exact h2 hc
theorem J.Gd_go {h : J.H} (hok : J.Ok h) (n : Nat) (ls st : List J.V) : J.Gd h (J.go n ls st h) := ⟨hok, J.Le.refl h⟩
theorem J.Gd_go2 {h h' : J.H} (n : Nat) (ls st : List J.V) (h1 : J.Ok h' ∧ J.Le h h') : J.Gd h (J.go n ls st h') := h1
theorem J.Gd_fin {h : J.H} (hok : J.Ok h) (o : J.O) : J.Gd h (J.fin o h) := ⟨hok, J.Le.refl h⟩
theorem J.sb_ne {c d : Nat} (h : J.sb c d = true) : c ≠ 0 := by
  intro e
  rw [e] at h
  have : J.ik 0 = true := (Bool.and_eq_true_iff.mp h).1
  revert this; decide
theorem J.na_gd {h : J.H} (hok : J.Ok h) (n : Nat) (ls st : List J.V) (c : Nat) (z : Int) : J.Gd h (J.na n ls st h c z) := J.Gd_if (fun q => J.Gd_go2 _ _ _ (J.Ok_nw hok)) (fun _ => trivial)
theorem J.isA_ne {c t : Nat} (h : J.isA c t = true) : c ≠ 0 := by
  intro e
  rw [e] at h
  unfold J.isA at h
  split at h <;> simp at h
set_option maxHeartbeats 4000000 in
theorem J.sx_gd {i : Instr} {n r s : Nat} {t : Int} {ls st : List J.V} {h : J.H} (hok : J.Ok h) : J.Gd h (J.sx i n r s t ls st h) := by
  cases i
  all_goals first
    | exact trivial
    | exact J.Gd_go hok _ _ _
    | (unfold J.sx
       dsimp only
       repeat' split
       all_goals first
         | exact trivial
         | exact J.Gd_go hok _ _ _
         | exact J.Gd_fin hok _
         | exact J.na_gd hok _ _ _ _ _
         | exact J.Gd_go2 _ _ _ (J.Ok_nw hok)
         | (rename_i hq; exact J.Gd_go2 _ _ _ (J.Ok_sv hok (J.sb_ne hq.1)))
         | (rename_i hq; exact J.Gd_go2 _ _ _ (J.Ok_sv hok (by have := hq.1; omega)))
         | (rename_i hq; exact J.Gd_go2 _ _ _ (J.Ok_sv hok (J.isA_ne hq.2.1)))
         | (rename_i hq; exact J.Gd_go2 _ _ _ (J.Ok_cpy hok (by rcases hq.2.2.2.2.2.2.2 with w | w <;> (have := w.2.1; omega))))
         | (rename_i hq; exact J.Gd_go2 _ _ _ (J.Ok_ex hok (by have := hq.2.1; omega)))
         | exact J.Gd_go2 _ _ _ (J.Ok_cl hok (by decide)))
/-- every run keeps what is there -/
theorem J.keep {d k pc : Nat} {ls st : List J.V} {h : J.H} {Q : J.O → J.H → Prop} (hok : J.Ok h) (x : J.WP d k pc ls st h Q) : J.WP d k pc ls st h (fun o h' => Q o h' ∧ J.Ok h' ∧ J.Le h h') := by
  refine x (fun d k pc ls st h Q => J.Ok h → J.WP d k pc ls st h (fun o h' => Q o h' ∧ J.Ok h' ∧ J.Le h h')) ?_ ?_ hok
  · intro d k pc ls st h Q Q' hQ y hk
    exact J.WP_mono _ _ _ _ _ _ _ _ (fun o h' q => ⟨hQ _ _ q.1, q.2⟩) (y hk)
  · intro d k pc ls st h Q y hk
    refine J.WP_of ?_
    unfold J.ST at y ⊢
    cases hc : J.cd k pc with
    | none => rw [hc] at y; exact y
    | some z =>
      obtain ⟨i, n, r, s, t⟩ := z
      rw [hc] at y
      dsimp only at y ⊢
      have g := J.sx_gd (i := i) (n := n) (r := r) (s := s) (t := t) (ls := ls) (st := st) hk
      generalize J.sx i n r s t ls st h = w at y g ⊢
      match w, y, g with
      | none, y, _ => exact y
      | some (Sum.inl (pc', ls', st', h')), y, g =>
        exact J.WP_mono _ _ _ _ _ _ _ _ (fun o h2 q => ⟨q.1, q.2.1, g.2.trans q.2.2⟩) (y g.1)
      | some (Sum.inr (Sum.inl (k', l0, st'))), y, _ =>
        refine ⟨y.1, J.WP_mono _ _ _ _ _ _ _ _ (fun o h2 q => ?_) (y.2 hk)⟩
        obtain ⟨q1, q2, q3⟩ := q
        match o, q1 with
        | Sum.inl none, q1 => exact J.WP_mono _ _ _ _ _ _ _ _ (fun o h3 w => ⟨w.1, w.2.1, q3.trans w.2.2⟩) (q1 q2)
        | Sum.inl (some v), q1 => exact J.WP_mono _ _ _ _ _ _ _ _ (fun o h3 w => ⟨w.1, w.2.1, q3.trans w.2.2⟩) (q1 q2)
        | Sum.inr e, q1 =>
          obtain ⟨x1, x2⟩ := q1
          refine ⟨x1, ?_⟩
          cases hh : J.hd k pc with
          | some q => rw [hh] at x2; exact J.WP_mono _ _ _ _ _ _ _ _ (fun o h3 w => ⟨w.1, w.2.1, q3.trans w.2.2⟩) (x2 q2)
          | none => rw [hh] at x2; exact ⟨x2, q2, q3⟩
      | some (Sum.inr (Sum.inr (o, h'))), y, g => exact ⟨y.1, y.2, g⟩
end
section
set_option maxRecDepth 100000
/-! 9 java/util/ArrayList.<init>()V -/
theorem i9_0 : J.cd 9 0 = some (.aload 0, 1, 0, 0, 0) := by decide +kernel
theorem i9_1 : J.cd 9 1 = some (.invokespecial 1, 4, 10, 1, 1) := by decide +kernel
theorem i9_4 : J.cd 9 4 = some (.aload 0, 5, 0, 0, 0) := by decide +kernel
theorem i9_5 : J.cd 9 5 = some (.getstatic 39, 8, 1, 0, 2) := by decide +kernel
theorem i9_8 : J.cd 9 8 = some (.putfield 9, 11, 19, 6, 2) := by decide +kernel
theorem i9_11 : J.cd 9 11 = some (.return_, 12, 11, 0, 0) := by decide +kernel
theorem b9_0 (d : Nat) (h : J.H) (Q : J.O → J.H → Prop) (x0 : Int) : J.WP d 9 0 [J.R x0] [] h Q ↔ J.ik (J.cl h x0) = true ∧ 0 < d ∧ J.WP (d - 1) 10 0 [J.R x0] [] h (J.af J.WP d 9 1 4 [J.R x0] [] Q) := by
  refine (J.r_aload i9_0 rfl).trans ?_
  exact J.r_spec i9_1 (by decide) ⟨by decide, Nat.le_of_ble_eq_true rfl⟩ rfl rfl (Nat.le_of_ble_eq_true rfl)
theorem b9_4 (d : Nat) (h : J.H) (Q : J.O → J.H → Prop) (x0 : Int) : J.WP d 9 4 [J.R x0] [] h Q ↔ (J.sb (J.cl h x0) 6 = true ∧ J.cl h x0 < 300) ∧ (Q (Sum.inl none) (J.sv h x0 19 (J.gv h (-1) 1))) := by
  refine (J.r_aload i9_4 rfl).trans ?_
  refine (J.r_getsR i9_5).trans ?_
  refine (J.r_putR i9_8).trans (and_congr_right fun q0 => ?_)
  exact J.r_ret i9_11 rfl
/-! 10 java/util/AbstractList.<init>()V -/
theorem i10_0 : J.cd 10 0 = some (.aload 0, 1, 0, 0, 0) := by decide +kernel
theorem i10_1 : J.cd 10 1 = some (.invokespecial 1, 4, 11, 1, 1) := by decide +kernel
theorem i10_4 : J.cd 10 4 = some (.aload 0, 5, 0, 0, 0) := by decide +kernel
theorem i10_5 : J.cd 10 5 = some (.iconst 0, 6, 5, 0, 0) := by decide +kernel
theorem i10_6 : J.cd 10 6 = some (.putfield 7, 9, 21, 87, 0) := by decide +kernel
theorem i10_9 : J.cd 10 9 = some (.return_, 10, 9, 0, 0) := by decide +kernel
theorem b10_0 (d : Nat) (h : J.H) (Q : J.O → J.H → Prop) (x0 : Int) : J.WP d 10 0 [J.R x0] [] h Q ↔ J.ik (J.cl h x0) = true ∧ 0 < d ∧ J.WP (d - 1) 11 0 [J.R x0] [] h (J.af J.WP d 10 1 4 [J.R x0] [] Q) := by
  refine (J.r_aload i10_0 rfl).trans ?_
  exact J.r_spec i10_1 (by decide) ⟨by decide, Nat.le_of_ble_eq_true rfl⟩ rfl rfl (Nat.le_of_ble_eq_true rfl)
theorem b10_4 (d : Nat) (h : J.H) (Q : J.O → J.H → Prop) (x0 : Int) : J.WP d 10 4 [J.R x0] [] h Q ↔ (J.sb (J.cl h x0) 87 = true ∧ J.cl h x0 < 300) ∧ (Q (Sum.inl none) (J.sv h x0 21 0)) := by
  refine (J.r_aload i10_4 rfl).trans ?_
  refine (J.r_iconst i10_5).trans ?_
  refine (J.r_putI i10_6).trans (and_congr_right fun q0 => ?_)
  exact J.r_ret i10_9 rfl
/-! 11 java/util/AbstractCollection.<init>()V -/
theorem i11_0 : J.cd 11 0 = some (.aload 0, 1, 0, 0, 0) := by decide +kernel
theorem i11_1 : J.cd 11 1 = some (.invokespecial 1, 4, 2005, 1, 0) := by decide +kernel
theorem i11_4 : J.cd 11 4 = some (.return_, 5, 4, 0, 0) := by decide +kernel
theorem b11_0 (d : Nat) (h : J.H) (Q : J.O → J.H → Prop) (x0 : Int) : J.WP d 11 0 [J.R x0] [] h Q ↔ (J.ik (J.cl h x0) = true) ∧ (Q (Sum.inl none) h) := by
  refine (J.r_aload i11_0 rfl).trans ?_
  refine (J.r_obj i11_1).trans (and_congr_right fun q0 => ?_)
  exact J.r_ret i11_4 rfl
/-! 17 java/util/ArrayList.add(Ljava/lang/Object;)Z -/
theorem i17_0 : J.cd 17 0 = some (.aload 0, 1, 0, 0, 0) := by decide +kernel
theorem i17_1 : J.cd 17 1 = some (.dup, 2, 1, 0, 0) := by decide +kernel
theorem i17_2 : J.cd 17 2 = some (.getfield 63, 5, 21, 87, 0) := by decide +kernel
theorem i17_5 : J.cd 17 5 = some (.iconst 1, 6, 5, 0, 0) := by decide +kernel
theorem i17_6 : J.cd 17 6 = some (.iadd, 7, 6, 0, 0) := by decide +kernel
theorem i17_7 : J.cd 17 7 = some (.putfield 63, 10, 21, 87, 0) := by decide +kernel
theorem i17_10 : J.cd 17 10 = some (.aload 0, 11, 0, 0, 0) := by decide +kernel
theorem i17_11 : J.cd 17 11 = some (.aload 1, 12, 0, 0, 0) := by decide +kernel
theorem i17_12 : J.cd 17 12 = some (.aload 0, 13, 0, 0, 0) := by decide +kernel
theorem i17_13 : J.cd 17 13 = some (.getfield 9, 16, 19, 6, 2) := by decide +kernel
theorem i17_16 : J.cd 17 16 = some (.aload 0, 17, 0, 0, 0) := by decide +kernel
theorem i17_17 : J.cd 17 17 = some (.getfield 48, 20, 20, 6, 0) := by decide +kernel
theorem i17_20 : J.cd 17 20 = some (.invokevirtual 131, 23, 223, 3, 0) := by decide +kernel
theorem i17_23 : J.cd 17 23 = some (.iconst 1, 24, 23, 0, 0) := by decide +kernel
theorem i17_24 : J.cd 17 24 = some (.ireturn, 25, 0, 0, 3) := by decide +kernel
theorem b17_0 (d : Nat) (h : J.H) (Q : J.O → J.H → Prop) (x0 x1 : Int) : J.WP d 17 0 [J.R x0, J.R x1] [] h Q ↔ (J.sb (J.cl h x0) 87 = true) ∧ ((J.sb (J.cl h x0) 87 = true ∧ J.cl h x0 < 300) ∧ ((J.sb (J.cl h x0) 6 = true) ∧ (J.cl h x0 = 6 ∧ 0 < d ∧ J.WP (d - 1) 18 0 [J.R x0, J.R x1, J.R (J.gv (J.sv h x0 21 (J.w32 ((J.gv h x0 21) + 1))) x0 19), J.I (J.gv (J.sv h x0 21 (J.w32 ((J.gv h x0 21) + 1))) x0 20)] [] (J.sv h x0 21 (J.w32 ((J.gv h x0 21) + 1))) (J.af J.WP d 17 20 23 [J.R x0, J.R x1] [] Q)))) := by
  refine (J.r_aload i17_0 rfl).trans ?_
  refine (J.r_dupR i17_1).trans ?_
  refine (J.r_getI i17_2).trans (and_congr_right fun q0 => ?_)
  refine (J.r_iconst i17_5).trans ?_
  refine (J.r_iadd i17_6).trans ?_
  refine (J.r_putI i17_7).trans (and_congr_right fun q1 => ?_)
  refine (J.r_aload i17_10 rfl).trans ?_
  refine (J.r_aload i17_11 rfl).trans ?_
  refine (J.r_aload i17_12 rfl).trans ?_
  refine (J.r_getR i17_13).trans (and_congr_right fun q2 => ?_)
  refine (J.r_aload i17_16 rfl).trans ?_
  refine (J.r_getI i17_17).trans ((J.tru q2).trans ?_)
  exact J.r_virt1 (k2 := 18) (m := 4) 6 i17_20 rfl (by decide +kernel) (by decide) rfl (Nat.le_of_ble_eq_true rfl)
theorem b17_23 (d : Nat) (h : J.H) (Q : J.O → J.H → Prop) (x0 x1 : Int) : J.WP d 17 23 [J.R x0, J.R x1] [] h Q ↔ (J.zo 1) ∧ Q (Sum.inl (some (J.I 1))) h := by
  refine (J.r_iconst i17_23).trans ?_
  exact J.r_iretZ i17_24 rfl
/-! 18 java/util/ArrayList.add(Ljava/lang/Object;[Ljava/lang/Object;I)V -/
theorem i18_0 : J.cd 18 0 = some (.iload 3, 1, 0, 0, 0) := by decide +kernel
theorem i18_1 : J.cd 18 1 = some (.aload 2, 2, 0, 0, 0) := by decide +kernel
theorem i18_2 : J.cd 18 2 = some (.arraylength, 3, 2, 0, 0) := by decide +kernel
theorem i18_3 : J.cd 18 3 = some (.if_icmp .ne 8, 6, 11, 0, 0) := by decide +kernel
theorem i18_6 : J.cd 18 6 = some (.aload 0, 7, 0, 0, 0) := by decide +kernel
theorem i18_7 : J.cd 18 7 = some (.invokevirtual 129, 10, 224, 0, 0) := by decide +kernel
theorem i18_10 : J.cd 18 10 = some (.astore 2, 11, 0, 0, 0) := by decide +kernel
theorem i18_11 : J.cd 18 11 = some (.aload 2, 12, 0, 0, 0) := by decide +kernel
theorem i18_12 : J.cd 18 12 = some (.iload 3, 13, 0, 0, 0) := by decide +kernel
theorem i18_13 : J.cd 18 13 = some (.aload 1, 14, 0, 0, 0) := by decide +kernel
theorem i18_14 : J.cd 18 14 = some (.aastore, 15, 14, 0, 0) := by decide +kernel
theorem i18_15 : J.cd 18 15 = some (.aload 0, 16, 0, 0, 0) := by decide +kernel
theorem i18_16 : J.cd 18 16 = some (.iload 3, 17, 0, 0, 0) := by decide +kernel
theorem i18_17 : J.cd 18 17 = some (.iconst 1, 18, 17, 0, 0) := by decide +kernel
theorem i18_18 : J.cd 18 18 = some (.iadd, 19, 18, 0, 0) := by decide +kernel
theorem i18_19 : J.cd 18 19 = some (.putfield 48, 22, 20, 6, 0) := by decide +kernel
theorem i18_22 : J.cd 18 22 = some (.return_, 23, 22, 0, 0) := by decide +kernel
theorem b18_0 (d : Nat) (h : J.H) (Q : J.O → J.H → Prop) (x0 x1 x2 x3 : Int) : J.WP d 18 0 [J.R x0, J.R x1, J.R x2, J.I x3] [] h Q ↔ (J.ia (J.cl h x2) = true) ∧ (if x3 = (J.ln h x2) then (J.cl h x0 = 6 ∧ 0 < d ∧ J.WP (d - 1) 19 0 [J.R x0] [] h (J.af J.WP d 18 7 10 [J.R x0, J.R x1, J.R x2, J.I x3] [] Q)) else (J.WP d 18 11 [J.R x0, J.R x1, J.R x2, J.I x3] [] h Q)) := by
  refine (J.r_iload i18_0 rfl).trans ?_
  refine (J.r_aload i18_1 rfl).trans ?_
  refine (J.r_alen i18_2).trans (and_congr_right fun q0 => ?_)
  refine (J.r_icne i18_3).trans (J.ite2 ?_ ?_)
  · refine (J.r_aload i18_6 rfl).trans ?_
    exact J.r_virt1 (k2 := 19) (m := 1) 6 i18_7 rfl (by decide +kernel) (by decide) rfl (Nat.le_of_ble_eq_true rfl)
  · exact Iff.rfl
theorem b18_10 (d : Nat) (h : J.H) (Q : J.O → J.H → Prop) (x0 x1 x2 x3 s0 : Int) : J.WP d 18 10 [J.R x0, J.R x1, J.R x2, J.I x3] [J.R s0] h Q ↔ J.WP d 18 11 [J.R x0, J.R x1, J.R s0, J.I x3] [] h Q := by
  refine (J.r_astore i18_10 (Nat.le_of_ble_eq_true rfl) rfl).trans ?_
  exact Iff.rfl
theorem b18_11 (d : Nat) (h : J.H) (Q : J.O → J.H → Prop) (x0 x1 x2 x3 : Int) : J.WP d 18 11 [J.R x0, J.R x1, J.R x2, J.I x3] [] h Q ↔ (J.cl h x2 < 300 ∧ J.isA (J.cl h x2) 2 = true ∧ J.rg x3 (J.ln h x2) ∧ J.aok h x2 x1) ∧ ((J.sb (J.cl h x0) 6 = true ∧ J.cl h x0 < 300) ∧ (Q (Sum.inl none) (J.sv (J.sv h x2 x3 x1) x0 20 (J.w32 (x3 + 1))))) := by
  refine (J.r_aload i18_11 rfl).trans ?_
  refine (J.r_iload i18_12 rfl).trans ?_
  refine (J.r_aload i18_13 rfl).trans ?_
  refine (J.r_aastore i18_14).trans (and_congr_right fun q0 => ?_)
  refine (J.r_aload i18_15 rfl).trans ?_
  refine (J.r_iload i18_16 rfl).trans ?_
  refine (J.r_iconst i18_17).trans ?_
  refine (J.r_iadd i18_18).trans ?_
  refine (J.r_putI i18_19).trans (and_congr_right fun q1 => ?_)
  exact J.r_ret i18_22 rfl
/-! 19 java/util/ArrayList.grow()[Ljava/lang/Object; -/
theorem i19_0 : J.cd 19 0 = some (.aload 0, 1, 0, 0, 0) := by decide +kernel
theorem i19_1 : J.cd 19 1 = some (.aload 0, 2, 0, 0, 0) := by decide +kernel
theorem i19_2 : J.cd 19 2 = some (.getfield 48, 5, 20, 6, 0) := by decide +kernel
theorem i19_5 : J.cd 19 5 = some (.iconst 1, 6, 5, 0, 0) := by decide +kernel
theorem i19_6 : J.cd 19 6 = some (.iadd, 7, 6, 0, 0) := by decide +kernel
theorem i19_7 : J.cd 19 7 = some (.invokevirtual 69, 10, 225, 1, 0) := by decide +kernel
theorem i19_10 : J.cd 19 10 = some (.areturn, 11, 10, 0, 0) := by decide +kernel
theorem b19_0 (d : Nat) (h : J.H) (Q : J.O → J.H → Prop) (x0 : Int) : J.WP d 19 0 [J.R x0] [] h Q ↔ (J.sb (J.cl h x0) 6 = true) ∧ (J.cl h x0 = 6 ∧ 0 < d ∧ J.WP (d - 1) 20 0 [J.R x0, J.I (J.w32 ((J.gv h x0 20) + 1)), J.U, J.U] [] h (J.af J.WP d 19 7 10 [J.R x0] [] Q)) := by
  refine (J.r_aload i19_0 rfl).trans ?_
  refine (J.r_aload i19_1 rfl).trans ?_
  refine (J.r_getI i19_2).trans (and_congr_right fun q0 => ?_)
  refine (J.r_iconst i19_5).trans ?_
  refine (J.r_iadd i19_6).trans ?_
  exact J.r_virt1 (k2 := 20) (m := 4) 6 i19_7 rfl (by decide +kernel) (by decide) rfl (Nat.le_of_ble_eq_true rfl)
theorem b19_10 (d : Nat) (h : J.H) (Q : J.O → J.H → Prop) (x0 s0 : Int) : J.WP d 19 10 [J.R x0] [J.R s0] h Q ↔ Q (Sum.inl (some (J.R s0))) h := by
  exact J.r_aret i19_10 rfl
/-! 20 java/util/ArrayList.grow(I)[Ljava/lang/Object; -/
theorem i20_0 : J.cd 20 0 = some (.aload 0, 1, 0, 0, 0) := by decide +kernel
theorem i20_1 : J.cd 20 1 = some (.getfield 9, 4, 19, 6, 2) := by decide +kernel
theorem i20_4 : J.cd 20 4 = some (.arraylength, 5, 4, 0, 0) := by decide +kernel
theorem i20_5 : J.cd 20 5 = some (.istore 2, 6, 0, 0, 0) := by decide +kernel
theorem i20_6 : J.cd 20 6 = some (.iload 2, 7, 0, 0, 0) := by decide +kernel
theorem i20_7 : J.cd 20 7 = some (.ifCond .gt 13, 10, 20, 0, 0) := by decide +kernel
theorem i20_10 : J.cd 20 10 = some (.aload 0, 11, 0, 0, 0) := by decide +kernel
theorem i20_11 : J.cd 20 11 = some (.getfield 9, 14, 19, 6, 2) := by decide +kernel
theorem i20_14 : J.cd 20 14 = some (.getstatic 39, 17, 1, 0, 2) := by decide +kernel
theorem i20_17 : J.cd 20 17 = some (.if_acmp .eq 28, 20, 45, 0, 0) := by decide +kernel
theorem i20_20 : J.cd 20 20 = some (.iload 2, 21, 0, 0, 0) := by decide +kernel
theorem i20_21 : J.cd 20 21 = some (.iload 1, 22, 0, 0, 0) := by decide +kernel
theorem i20_22 : J.cd 20 22 = some (.iload 2, 23, 0, 0, 0) := by decide +kernel
theorem i20_23 : J.cd 20 23 = some (.isub, 24, 23, 0, 0) := by decide +kernel
theorem i20_24 : J.cd 20 24 = some (.iload 2, 25, 0, 0, 0) := by decide +kernel
theorem i20_25 : J.cd 20 25 = some (.iconst 1, 26, 25, 0, 0) := by decide +kernel
theorem i20_26 : J.cd 20 26 = some (.ishr, 27, 26, 0, 0) := by decide +kernel
theorem i20_27 : J.cd 20 27 = some (.invokestatic 73, 30, 21, 3, 4) := by decide +kernel
theorem i20_30 : J.cd 20 30 = some (.istore 3, 31, 0, 0, 0) := by decide +kernel
theorem i20_31 : J.cd 20 31 = some (.aload 0, 32, 0, 0, 0) := by decide +kernel
theorem i20_32 : J.cd 20 32 = some (.aload 0, 33, 0, 0, 0) := by decide +kernel
theorem i20_33 : J.cd 20 33 = some (.getfield 9, 36, 19, 6, 2) := by decide +kernel
theorem i20_36 : J.cd 20 36 = some (.iload 3, 37, 0, 0, 0) := by decide +kernel
theorem i20_37 : J.cd 20 37 = some (.invokestatic 66, 40, 24, 2, 2) := by decide +kernel
theorem i20_40 : J.cd 20 40 = some (.dup_x1, 41, 40, 0, 0) := by decide +kernel
theorem i20_41 : J.cd 20 41 = some (.putfield 9, 44, 19, 6, 2) := by decide +kernel
theorem i20_44 : J.cd 20 44 = some (.areturn, 45, 44, 0, 0) := by decide +kernel
theorem i20_45 : J.cd 20 45 = some (.aload 0, 46, 0, 0, 0) := by decide +kernel
theorem i20_46 : J.cd 20 46 = some (.iconst 10, 48, 0, 0, 0) := by decide +kernel
theorem i20_48 : J.cd 20 48 = some (.iload 1, 49, 0, 0, 0) := by decide +kernel
theorem i20_49 : J.cd 20 49 = some (.invokestatic 79, 52, 22, 2, 2) := by decide +kernel
theorem i20_52 : J.cd 20 52 = some (.anewarray 7, 55, 85, 0, 214) := by decide +kernel
theorem i20_55 : J.cd 20 55 = some (.dup_x1, 56, 55, 0, 0) := by decide +kernel
theorem i20_56 : J.cd 20 56 = some (.putfield 9, 59, 19, 6, 2) := by decide +kernel
theorem i20_59 : J.cd 20 59 = some (.areturn, 60, 59, 0, 0) := by decide +kernel
theorem b20_0 (d : Nat) (h : J.H) (Q : J.O → J.H → Prop) (x0 x1 : Int) : J.WP d 20 0 [J.R x0, J.I x1, J.U, J.U] [] h Q ↔ (J.sb (J.cl h x0) 6 = true) ∧ ((J.ia (J.cl h (J.gv h x0 19)) = true) ∧ (if (J.ln h (J.gv h x0 19)) ≤ 0 then (if (J.gv h x0 19) = (J.gv h (-1) 1) then (0 < d ∧ J.WP (d - 1) 22 0 [J.I 10, J.I x1] [] h (J.af J.WP d 20 49 52 [J.R x0, J.I x1, J.I (J.ln h (J.gv h x0 19)), J.U] [J.R x0] Q)) else (J.WP d 20 20 [J.R x0, J.I x1, J.I (J.ln h (J.gv h x0 19)), J.U] [] h Q)) else (J.WP d 20 20 [J.R x0, J.I x1, J.I (J.ln h (J.gv h x0 19)), J.U] [] h Q))) := by
  refine (J.r_aload i20_0 rfl).trans ?_
  refine (J.r_getR i20_1).trans (and_congr_right fun q0 => ?_)
  refine (J.r_alen i20_4).trans (and_congr_right fun q1 => ?_)
  refine (J.r_istore i20_5 (Nat.le_of_ble_eq_true rfl) rfl).trans ?_
  refine (J.r_iload i20_6 rfl).trans ?_
  refine (J.r_ifgt i20_7).trans (J.ite2 ?_ ?_)
  · refine (J.r_aload i20_10 rfl).trans ?_
    refine (J.r_getR i20_11).trans ((J.tru q0).trans ?_)
    refine (J.r_getsR i20_14).trans ?_
    refine (J.r_aceq i20_17).trans (J.ite2 ?_ ?_)
    · refine (J.r_aload i20_45 rfl).trans ?_
      refine (J.r_iconst i20_46).trans ?_
      refine (J.r_iload i20_48 rfl).trans ?_
      exact J.r_stat i20_49 (by decide) (Nat.le_of_ble_eq_true rfl) rfl rfl (Nat.le_of_ble_eq_true rfl)
    · exact Iff.rfl
  · exact Iff.rfl
theorem b20_20 (d : Nat) (h : J.H) (Q : J.O → J.H → Prop) (x0 x1 x2 : Int) : J.WP d 20 20 [J.R x0, J.I x1, J.I x2, J.U] [] h Q ↔ 0 < d ∧ J.WP (d - 1) 21 0 [J.I x2, J.I (J.w32 (x1 - x2)), J.I (J.shr32 x2 1), J.U] [] h (J.af J.WP d 20 27 30 [J.R x0, J.I x1, J.I x2, J.U] [] Q) := by
  refine (J.r_iload i20_20 rfl).trans ?_
  refine (J.r_iload i20_21 rfl).trans ?_
  refine (J.r_iload i20_22 rfl).trans ?_
  refine (J.r_isub i20_23).trans ?_
  refine (J.r_iload i20_24 rfl).trans ?_
  refine (J.r_iconst i20_25).trans ?_
  refine (J.r_ishr i20_26).trans ?_
  exact J.r_stat i20_27 (by decide) (Nat.le_of_ble_eq_true rfl) rfl rfl (Nat.le_of_ble_eq_true rfl)
theorem b20_30 (d : Nat) (h : J.H) (Q : J.O → J.H → Prop) (x0 x1 x2 s0 : Int) : J.WP d 20 30 [J.R x0, J.I x1, J.I x2, J.U] [J.I s0] h Q ↔ (J.sb (J.cl h x0) 6 = true) ∧ (0 < d ∧ J.WP (d - 1) 24 0 [J.R (J.gv h x0 19), J.I s0] [] h (J.af J.WP d 20 37 40 [J.R x0, J.I x1, J.I x2, J.I s0] [J.R x0] Q)) := by
  refine (J.r_istore i20_30 (Nat.le_of_ble_eq_true rfl) rfl).trans ?_
  refine (J.r_aload i20_31 rfl).trans ?_
  refine (J.r_aload i20_32 rfl).trans ?_
  refine (J.r_getR i20_33).trans (and_congr_right fun q0 => ?_)
  refine (J.r_iload i20_36 rfl).trans ?_
  exact J.r_stat i20_37 (by decide) (Nat.le_of_ble_eq_true rfl) rfl rfl (Nat.le_of_ble_eq_true rfl)
theorem b20_40 (d : Nat) (h : J.H) (Q : J.O → J.H → Prop) (x0 x1 x2 x3 s0 s1 : Int) : J.WP d 20 40 [J.R x0, J.I x1, J.I x2, J.I x3] [J.R s1, J.R s0] h Q ↔ (J.sb (J.cl h s0) 6 = true ∧ J.cl h s0 < 300) ∧ (Q (Sum.inl (some (J.R s1))) (J.sv h s0 19 s1)) := by
  refine (J.r_dupx1RR i20_40).trans ?_
  refine (J.r_putR i20_41).trans (and_congr_right fun q0 => ?_)
  exact J.r_aret i20_44 rfl
theorem b20_52 (d : Nat) (h : J.H) (Q : J.O → J.H → Prop) (x0 x1 x2 s0 s1 : Int) : J.WP d 20 52 [J.R x0, J.I x1, J.I x2, J.U] [J.I s1, J.R s0] h Q ↔ (0 ≤ s1 ∧ J.us h + 7 + s1 ≤ J.UM) ∧ ((J.sb (J.cl (J.nw h 214 s1 (7 + s1)) s0) 6 = true ∧ J.cl (J.nw h 214 s1 (7 + s1)) s0 < 300) ∧ (Q (Sum.inl (some (J.R (J.nx h)))) (J.sv (J.nw h 214 s1 (7 + s1)) s0 19 (J.nx h)))) := by
  refine (J.r_anewarray i20_52).trans (and_congr_right fun q0 => ?_)
  refine (J.r_dupx1RR i20_55).trans ?_
  refine (J.r_putR i20_56).trans (and_congr_right fun q1 => ?_)
  exact J.r_aret i20_59 rfl
/-! 21 jdk/internal/util/ArraysSupport.newLength(III)I -/
theorem i21_0 : J.cd 21 0 = some (.iload 0, 1, 0, 0, 0) := by decide +kernel
theorem i21_1 : J.cd 21 1 = some (.iload 1, 2, 0, 0, 0) := by decide +kernel
theorem i21_2 : J.cd 21 2 = some (.iload 2, 3, 0, 0, 0) := by decide +kernel
theorem i21_3 : J.cd 21 3 = some (.invokestatic 194, 6, 22, 2, 2) := by decide +kernel
theorem i21_6 : J.cd 21 6 = some (.iadd, 7, 6, 0, 0) := by decide +kernel
theorem i21_7 : J.cd 21 7 = some (.istore 3, 8, 0, 0, 0) := by decide +kernel
theorem i21_8 : J.cd 21 8 = some (.iconst 0, 9, 8, 0, 0) := by decide +kernel
theorem i21_9 : J.cd 21 9 = some (.iload 3, 10, 0, 0, 0) := by decide +kernel
theorem i21_10 : J.cd 21 10 = some (.if_icmp .ge 11, 13, 21, 0, 0) := by decide +kernel
theorem i21_13 : J.cd 21 13 = some (.iload 3, 14, 0, 0, 0) := by decide +kernel
theorem i21_14 : J.cd 21 14 = some (.ldc 200, 16, 0, 0, 2147483639) := by decide +kernel
theorem i21_16 : J.cd 21 16 = some (.if_icmp .gt 5, 19, 21, 0, 0) := by decide +kernel
theorem i21_19 : J.cd 21 19 = some (.iload 3, 20, 0, 0, 0) := by decide +kernel
theorem i21_20 : J.cd 21 20 = some (.ireturn, 21, 0, 0, 0) := by decide +kernel
theorem i21_21 : J.cd 21 21 = some (.iload 0, 22, 0, 0, 0) := by decide +kernel
theorem i21_22 : J.cd 21 22 = some (.iload 1, 23, 0, 0, 0) := by decide +kernel
theorem i21_23 : J.cd 21 23 = some (.invokestatic 201, 26, 23, 2, 3) := by decide +kernel
theorem i21_26 : J.cd 21 26 = some (.ireturn, 27, 0, 0, 0) := by decide +kernel
theorem b21_0 (d : Nat) (h : J.H) (Q : J.O → J.H → Prop) (x0 x1 x2 : Int) : J.WP d 21 0 [J.I x0, J.I x1, J.I x2, J.U] [] h Q ↔ 0 < d ∧ J.WP (d - 1) 22 0 [J.I x1, J.I x2] [] h (J.af J.WP d 21 3 6 [J.I x0, J.I x1, J.I x2, J.U] [J.I x0] Q) := by
  refine (J.r_iload i21_0 rfl).trans ?_
  refine (J.r_iload i21_1 rfl).trans ?_
  refine (J.r_iload i21_2 rfl).trans ?_
  exact J.r_stat i21_3 (by decide) (Nat.le_of_ble_eq_true rfl) rfl rfl (Nat.le_of_ble_eq_true rfl)
theorem b21_6 (d : Nat) (h : J.H) (Q : J.O → J.H → Prop) (x0 x1 x2 s0 s1 : Int) : J.WP d 21 6 [J.I x0, J.I x1, J.I x2, J.U] [J.I s1, J.I s0] h Q ↔ if (0 : Int) < (J.w32 (s0 + s1)) then (if (J.w32 (s0 + s1)) ≤ 2147483639 then (Q (Sum.inl (some (J.I (J.w32 (s0 + s1))))) h) else (J.WP d 21 21 [J.I x0, J.I x1, J.I x2, J.I (J.w32 (s0 + s1))] [] h Q)) else (J.WP d 21 21 [J.I x0, J.I x1, J.I x2, J.I (J.w32 (s0 + s1))] [] h Q) := by
  refine (J.r_iadd i21_6).trans ?_
  refine (J.r_istore i21_7 (Nat.le_of_ble_eq_true rfl) rfl).trans ?_
  refine (J.r_iconst i21_8).trans ?_
  refine (J.r_iload i21_9 rfl).trans ?_
  refine (J.r_icge i21_10).trans (J.ite2 ?_ ?_)
  · refine (J.r_iload i21_13 rfl).trans ?_
    refine (J.r_ldc i21_14).trans ?_
    refine (J.r_icgt i21_16).trans (J.ite2 ?_ ?_)
    · refine (J.r_iload i21_19 rfl).trans ?_
      exact J.r_iret i21_20 rfl
    · exact Iff.rfl
  · exact Iff.rfl
theorem b21_21 (d : Nat) (h : J.H) (Q : J.O → J.H → Prop) (x0 x1 x2 x3 : Int) : J.WP d 21 21 [J.I x0, J.I x1, J.I x2, J.I x3] [] h Q ↔ 0 < d ∧ J.WP (d - 1) 23 0 [J.I x0, J.I x1, J.U] [] h (J.af J.WP d 21 23 26 [J.I x0, J.I x1, J.I x2, J.I x3] [] Q) := by
  refine (J.r_iload i21_21 rfl).trans ?_
  refine (J.r_iload i21_22 rfl).trans ?_
  exact J.r_stat i21_23 (by decide) (Nat.le_of_ble_eq_true rfl) rfl rfl (Nat.le_of_ble_eq_true rfl)
theorem b21_26 (d : Nat) (h : J.H) (Q : J.O → J.H → Prop) (x0 x1 x2 x3 s0 : Int) : J.WP d 21 26 [J.I x0, J.I x1, J.I x2, J.I x3] [J.I s0] h Q ↔ Q (Sum.inl (some (J.I s0))) h := by
  exact J.r_iret i21_26 rfl
/-! 22 java/lang/Math.max(II)I -/
theorem i22_0 : J.cd 22 0 = some (.iload 0, 1, 0, 0, 0) := by decide +kernel
theorem i22_1 : J.cd 22 1 = some (.iload 1, 2, 0, 0, 0) := by decide +kernel
theorem i22_2 : J.cd 22 2 = some (.if_icmp .lt 7, 5, 9, 0, 0) := by decide +kernel
theorem i22_5 : J.cd 22 5 = some (.iload 0, 6, 0, 0, 0) := by decide +kernel
theorem i22_6 : J.cd 22 6 = some (.goto 4, 9, 10, 0, 0) := by decide +kernel
theorem i22_9 : J.cd 22 9 = some (.iload 1, 10, 0, 0, 0) := by decide +kernel
theorem i22_10 : J.cd 22 10 = some (.ireturn, 11, 0, 0, 0) := by decide +kernel
theorem b22_0 (d : Nat) (h : J.H) (Q : J.O → J.H → Prop) (x0 x1 : Int) : J.WP d 22 0 [J.I x0, J.I x1] [] h Q ↔ if x0 < x1 then (J.WP d 22 10 [J.I x0, J.I x1] [J.I x1] h Q) else (J.WP d 22 10 [J.I x0, J.I x1] [J.I x0] h Q) := by
  refine (J.r_iload i22_0 rfl).trans ?_
  refine (J.r_iload i22_1 rfl).trans ?_
  refine (J.r_iclt i22_2).trans (J.ite2 ?_ ?_)
  · refine (J.r_iload i22_9 rfl).trans ?_
    exact Iff.rfl
  · refine (J.r_iload i22_5 rfl).trans ?_
    refine (J.r_goto i22_6).trans ?_
    exact Iff.rfl
theorem b22_10 (d : Nat) (h : J.H) (Q : J.O → J.H → Prop) (x0 x1 s0 : Int) : J.WP d 22 10 [J.I x0, J.I x1] [J.I s0] h Q ↔ Q (Sum.inl (some (J.I s0))) h := by
  exact J.r_iret i22_10 rfl
/-! 23 jdk/internal/util/ArraysSupport.hugeLength(II)I -/
theorem i23_0 : J.cd 23 0 = some (.iload 0, 1, 0, 0, 0) := by decide +kernel
theorem i23_1 : J.cd 23 1 = some (.iload 1, 2, 0, 0, 0) := by decide +kernel
theorem i23_2 : J.cd 23 2 = some (.iadd, 3, 2, 0, 0) := by decide +kernel
theorem i23_3 : J.cd 23 3 = some (.istore 2, 4, 0, 0, 0) := by decide +kernel
theorem i23_4 : J.cd 23 4 = some (.iload 2, 5, 0, 0, 0) := by decide +kernel
theorem i23_5 : J.cd 23 5 = some (.ifCond .ge 44, 8, 49, 0, 0) := by decide +kernel
theorem i23_49 : J.cd 23 49 = some (.iload 2, 50, 0, 0, 0) := by decide +kernel
theorem i23_50 : J.cd 23 50 = some (.ldc 200, 52, 0, 0, 2147483639) := by decide +kernel
theorem i23_52 : J.cd 23 52 = some (.if_icmp .gt 6, 55, 58, 0, 0) := by decide +kernel
theorem i23_55 : J.cd 23 55 = some (.ldc 200, 57, 0, 0, 2147483639) := by decide +kernel
theorem i23_57 : J.cd 23 57 = some (.ireturn, 58, 0, 0, 0) := by decide +kernel
theorem i23_58 : J.cd 23 58 = some (.iload 2, 59, 0, 0, 0) := by decide +kernel
theorem i23_59 : J.cd 23 59 = some (.ireturn, 60, 0, 0, 0) := by decide +kernel
theorem b23_0 (d : Nat) (h : J.H) (Q : J.O → J.H → Prop) (x0 x1 : Int) : J.WP d 23 0 [J.I x0, J.I x1, J.U] [] h Q ↔ if (J.w32 (x0 + x1)) < 0 then (J.WP d 23 8 [J.I x0, J.I x1, J.I (J.w32 (x0 + x1))] [] h Q) else (if (J.w32 (x0 + x1)) ≤ 2147483639 then (Q (Sum.inl (some (J.I 2147483639))) h) else (Q (Sum.inl (some (J.I (J.w32 (x0 + x1))))) h)) := by
  refine (J.r_iload i23_0 rfl).trans ?_
  refine (J.r_iload i23_1 rfl).trans ?_
  refine (J.r_iadd i23_2).trans ?_
  refine (J.r_istore i23_3 (Nat.le_of_ble_eq_true rfl) rfl).trans ?_
  refine (J.r_iload i23_4 rfl).trans ?_
  refine (J.r_ifge i23_5).trans (J.ite2 ?_ ?_)
  · exact Iff.rfl
  · refine (J.r_iload i23_49 rfl).trans ?_
    refine (J.r_ldc i23_50).trans ?_
    refine (J.r_icgt i23_52).trans (J.ite2 ?_ ?_)
    · refine (J.r_ldc i23_55).trans ?_
      exact J.r_iret i23_57 rfl
    · refine (J.r_iload i23_58 rfl).trans ?_
      exact J.r_iret i23_59 rfl
/-! 24 java/util/Arrays.copyOf([Ljava/lang/Object;I)[Ljava/lang/Object; -/
theorem i24_0 : J.cd 24 0 = some (.aload 0, 1, 0, 0, 0) := by decide +kernel
theorem i24_1 : J.cd 24 1 = some (.iload 1, 2, 0, 0, 0) := by decide +kernel
theorem i24_2 : J.cd 24 2 = some (.aload 0, 3, 0, 0, 0) := by decide +kernel
theorem i24_3 : J.cd 24 3 = some (.invokevirtual 86, 6, 9001, 0, 0) := by decide +kernel
theorem i24_6 : J.cd 24 6 = some (.invokestatic 300, 9, 25, 3, 4) := by decide +kernel
theorem i24_9 : J.cd 24 9 = some (.areturn, 10, 9, 0, 0) := by decide +kernel
theorem b24_0 (d : Nat) (h : J.H) (Q : J.O → J.H → Prop) (x0 x1 : Int) : J.WP d 24 0 [J.R x0, J.I x1] [] h Q ↔ (J.cl h x0 = 214 ∨ J.cl h x0 = 311) ∧ (0 < d ∧ J.WP (d - 1) 25 0 [J.R x0, J.I x1, J.R (J.gv h (-1) 900), J.U] [] h (J.af J.WP d 24 6 9 [J.R x0, J.I x1] [] Q)) := by
  refine (J.r_aload i24_0 rfl).trans ?_
  refine (J.r_iload i24_1 rfl).trans ?_
  refine (J.r_aload i24_2 rfl).trans ?_
  refine (J.r_getc i24_3).trans (and_congr_right fun q0 => ?_)
  exact J.r_stat i24_6 (by decide) (Nat.le_of_ble_eq_true rfl) rfl rfl (Nat.le_of_ble_eq_true rfl)
theorem b24_9 (d : Nat) (h : J.H) (Q : J.O → J.H → Prop) (x0 x1 s0 : Int) : J.WP d 24 9 [J.R x0, J.I x1] [J.R s0] h Q ↔ Q (Sum.inl (some (J.R s0))) h := by
  exact J.r_aret i24_9 rfl
/-! 25 java/util/Arrays.copyOf([Ljava/lang/Object;ILjava/lang/Class;)[Ljava/lang/Object; -/
theorem i25_0 : J.cd 25 0 = some (.aload 2, 1, 0, 0, 0) := by decide +kernel
theorem i25_1 : J.cd 25 1 = some (.ldc 110, 3, 900, 1, 0) := by decide +kernel
theorem i25_3 : J.cd 25 3 = some (.if_acmp .ne 10, 6, 13, 0, 0) := by decide +kernel
theorem i25_6 : J.cd 25 6 = some (.iload 1, 7, 0, 0, 0) := by decide +kernel
theorem i25_7 : J.cd 25 7 = some (.anewarray 2, 10, 85, 0, 214) := by decide +kernel
theorem i25_10 : J.cd 25 10 = some (.goto 14, 13, 24, 0, 0) := by decide +kernel
theorem i25_13 : J.cd 25 13 = some (.aload 2, 14, 0, 0, 0) := by decide +kernel
theorem i25_24 : J.cd 25 24 = some (.astore 3, 25, 0, 0, 0) := by decide +kernel
theorem i25_25 : J.cd 25 25 = some (.aload 0, 26, 0, 0, 0) := by decide +kernel
theorem i25_26 : J.cd 25 26 = some (.iconst 0, 27, 26, 0, 0) := by decide +kernel
theorem i25_27 : J.cd 25 27 = some (.aload 3, 28, 0, 0, 0) := by decide +kernel
theorem i25_28 : J.cd 25 28 = some (.iconst 0, 29, 28, 0, 0) := by decide +kernel
theorem i25_29 : J.cd 25 29 = some (.aload 0, 30, 0, 0, 0) := by decide +kernel
theorem i25_30 : J.cd 25 30 = some (.arraylength, 31, 30, 0, 0) := by decide +kernel
theorem i25_31 : J.cd 25 31 = some (.iload 1, 32, 0, 0, 0) := by decide +kernel
theorem i25_32 : J.cd 25 32 = some (.invokestatic 304, 35, 26, 2, 2) := by decide +kernel
theorem i25_35 : J.cd 25 35 = some (.invokestatic 150, 38, 2000, 5, 0) := by decide +kernel
theorem i25_38 : J.cd 25 38 = some (.aload 3, 39, 0, 0, 0) := by decide +kernel
theorem i25_39 : J.cd 25 39 = some (.areturn, 40, 39, 0, 0) := by decide +kernel
theorem b25_0 (d : Nat) (h : J.H) (Q : J.O → J.H → Prop) (x0 x1 x2 : Int) : J.WP d 25 0 [J.R x0, J.I x1, J.R x2, J.U] [] h Q ↔ if x2 = (J.gv h (-1) 900) then ((0 ≤ x1 ∧ J.us h + 7 + x1 ≤ J.UM) ∧ ((J.ia (J.cl (J.nw h 214 x1 (7 + x1)) x0) = true) ∧ (0 < d ∧ J.WP (d - 1) 26 0 [J.I (J.ln (J.nw h 214 x1 (7 + x1)) x0), J.I x1] [] (J.nw h 214 x1 (7 + x1)) (J.af J.WP d 25 32 35 [J.R x0, J.I x1, J.R x2, J.R (J.nx h)] [J.I 0, J.R (J.nx h), J.I 0, J.R x0] Q)))) else (J.WP d 25 14 [J.R x0, J.I x1, J.R x2, J.U] [J.R x2] h Q) := by
  refine (J.r_aload i25_0 rfl).trans ?_
  refine (J.r_ldcs i25_1).trans ?_
  refine (J.r_acne i25_3).trans (J.ite2 ?_ ?_)
  · refine (J.r_iload i25_6 rfl).trans ?_
    refine (J.r_anewarray i25_7).trans (and_congr_right fun q0 => ?_)
    refine (J.r_goto i25_10).trans ?_
    refine (J.r_astore i25_24 (Nat.le_of_ble_eq_true rfl) rfl).trans ?_
    refine (J.r_aload i25_25 rfl).trans ?_
    refine (J.r_iconst i25_26).trans ?_
    refine (J.r_aload i25_27 rfl).trans ?_
    refine (J.r_iconst i25_28).trans ?_
    refine (J.r_aload i25_29 rfl).trans ?_
    refine (J.r_alen i25_30).trans (and_congr_right fun q1 => ?_)
    refine (J.r_iload i25_31 rfl).trans ?_
    exact J.r_stat i25_32 (by decide) (Nat.le_of_ble_eq_true rfl) rfl rfl (Nat.le_of_ble_eq_true rfl)
  · refine (J.r_aload i25_13 rfl).trans ?_
    exact Iff.rfl
theorem b25_35 (d : Nat) (h : J.H) (Q : J.O → J.H → Prop) (x0 x1 x2 x3 s0 s1 s2 s3 s4 : Int) : J.WP d 25 35 [J.R x0, J.I x1, J.R x2, J.R x3] [J.I s4, J.I s3, J.R s2, J.I s1, J.R s0] h Q ↔ ((0 : Int) ≤ s4 ∧ (0 : Int) ≤ s1 ∧ (0 : Int) ≤ s3 ∧ s1 + s4 ≤ J.ln h s0 ∧ s3 + s4 ≤ J.ln h s2 ∧ J.cl h s2 < 300 ∧ ((J.isA (J.cl h s0) 3 = true ∧ J.cl h s2 = 204 ∧ J.cl h s0 ≠ 203) ∨ (J.isA (J.cl h s0) 2 = true ∧ J.cl h s2 = 214 ∧ J.vld h s0 s1 s4 = true))) ∧ (Q (Sum.inl (some (J.R x3))) (J.cpy h s0 s1 s2 s3 s4)) := by
  refine (J.r_acopy i25_35).trans (and_congr_right fun q0 => ?_)
  refine (J.r_aload i25_38 rfl).trans ?_
  exact J.r_aret i25_39 rfl
/-! 26 java/lang/Math.min(II)I -/
theorem i26_0 : J.cd 26 0 = some (.iload 0, 1, 0, 0, 0) := by decide +kernel
theorem i26_1 : J.cd 26 1 = some (.iload 1, 2, 0, 0, 0) := by decide +kernel
theorem i26_2 : J.cd 26 2 = some (.if_icmp .gt 7, 5, 9, 0, 0) := by decide +kernel
theorem i26_5 : J.cd 26 5 = some (.iload 0, 6, 0, 0, 0) := by decide +kernel
theorem i26_6 : J.cd 26 6 = some (.goto 4, 9, 10, 0, 0) := by decide +kernel
theorem i26_9 : J.cd 26 9 = some (.iload 1, 10, 0, 0, 0) := by decide +kernel
theorem i26_10 : J.cd 26 10 = some (.ireturn, 11, 0, 0, 0) := by decide +kernel
theorem b26_0 (d : Nat) (h : J.H) (Q : J.O → J.H → Prop) (x0 x1 : Int) : J.WP d 26 0 [J.I x0, J.I x1] [] h Q ↔ if x0 ≤ x1 then (J.WP d 26 10 [J.I x0, J.I x1] [J.I x0] h Q) else (J.WP d 26 10 [J.I x0, J.I x1] [J.I x1] h Q) := by
  refine (J.r_iload i26_0 rfl).trans ?_
  refine (J.r_iload i26_1 rfl).trans ?_
  refine (J.r_icgt i26_2).trans (J.ite2 ?_ ?_)
  · refine (J.r_iload i26_5 rfl).trans ?_
    refine (J.r_goto i26_6).trans ?_
    exact Iff.rfl
  · refine (J.r_iload i26_9 rfl).trans ?_
    exact Iff.rfl
theorem b26_10 (d : Nat) (h : J.H) (Q : J.O → J.H → Prop) (x0 x1 s0 : Int) : J.WP d 26 10 [J.I x0, J.I x1] [J.I s0] h Q ↔ Q (Sum.inl (some (J.I s0))) h := by
  exact J.r_iret i26_10 rfl
/-! 30 java/util/ArrayList.get(I)Ljava/lang/Object; -/
theorem i30_0 : J.cd 30 0 = some (.iload 1, 1, 0, 0, 0) := by decide +kernel
theorem i30_1 : J.cd 30 1 = some (.aload 0, 2, 0, 0, 0) := by decide +kernel
theorem i30_2 : J.cd 30 2 = some (.getfield 48, 5, 20, 6, 0) := by decide +kernel
theorem i30_5 : J.cd 30 5 = some (.invokestatic 118, 8, 31, 2, 2) := by decide +kernel
theorem i30_8 : J.cd 30 8 = some (.pop, 9, 8, 0, 0) := by decide +kernel
theorem i30_9 : J.cd 30 9 = some (.aload 0, 10, 0, 0, 0) := by decide +kernel
theorem i30_10 : J.cd 30 10 = some (.iload 1, 11, 0, 0, 0) := by decide +kernel
theorem i30_11 : J.cd 30 11 = some (.invokevirtual 123, 14, 226, 1, 0) := by decide +kernel
theorem i30_14 : J.cd 30 14 = some (.areturn, 15, 14, 0, 0) := by decide +kernel
theorem b30_0 (d : Nat) (h : J.H) (Q : J.O → J.H → Prop) (x0 x1 : Int) : J.WP d 30 0 [J.R x0, J.I x1] [] h Q ↔ (J.sb (J.cl h x0) 6 = true) ∧ (0 < d ∧ J.WP (d - 1) 31 0 [J.I x1, J.I (J.gv h x0 20)] [] h (J.af J.WP d 30 5 8 [J.R x0, J.I x1] [] Q)) := by
  refine (J.r_iload i30_0 rfl).trans ?_
  refine (J.r_aload i30_1 rfl).trans ?_
  refine (J.r_getI i30_2).trans (and_congr_right fun q0 => ?_)
  exact J.r_stat i30_5 (by decide) (Nat.le_of_ble_eq_true rfl) rfl rfl (Nat.le_of_ble_eq_true rfl)
theorem b30_8 (d : Nat) (h : J.H) (Q : J.O → J.H → Prop) (x0 x1 s0 : Int) : J.WP d 30 8 [J.R x0, J.I x1] [J.I s0] h Q ↔ J.cl h x0 = 6 ∧ 0 < d ∧ J.WP (d - 1) 33 0 [J.R x0, J.I x1] [] h (J.af J.WP d 30 11 14 [J.R x0, J.I x1] [] Q) := by
  refine (J.r_popI i30_8).trans ?_
  refine (J.r_aload i30_9 rfl).trans ?_
  refine (J.r_iload i30_10 rfl).trans ?_
  exact J.r_virt1 (k2 := 33) (m := 2) 6 i30_11 rfl (by decide +kernel) (by decide) rfl (Nat.le_of_ble_eq_true rfl)
theorem b30_14 (d : Nat) (h : J.H) (Q : J.O → J.H → Prop) (x0 x1 s0 : Int) : J.WP d 30 14 [J.R x0, J.I x1] [J.R s0] h Q ↔ Q (Sum.inl (some (J.R s0))) h := by
  exact J.r_aret i30_14 rfl
/-! 31 java/util/Objects.checkIndex(II)I -/
theorem i31_0 : J.cd 31 0 = some (.iload 0, 1, 0, 0, 0) := by decide +kernel
theorem i31_1 : J.cd 31 1 = some (.iload 1, 2, 0, 0, 0) := by decide +kernel
theorem i31_2 : J.cd 31 2 = some (.aconst_null, 3, 2, 0, 0) := by decide +kernel
theorem i31_3 : J.cd 31 3 = some (.invokestatic 105, 6, 32, 3, 3) := by decide +kernel
theorem i31_6 : J.cd 31 6 = some (.ireturn, 7, 0, 0, 0) := by decide +kernel
theorem b31_0 (d : Nat) (h : J.H) (Q : J.O → J.H → Prop) (x0 x1 : Int) : J.WP d 31 0 [J.I x0, J.I x1] [] h Q ↔ 0 < d ∧ J.WP (d - 1) 32 0 [J.I x0, J.I x1, J.R 0] [] h (J.af J.WP d 31 3 6 [J.I x0, J.I x1] [] Q) := by
  refine (J.r_iload i31_0 rfl).trans ?_
  refine (J.r_iload i31_1 rfl).trans ?_
  refine (J.r_null i31_2).trans ?_
  exact J.r_stat i31_3 (by decide) (Nat.le_of_ble_eq_true rfl) rfl rfl (Nat.le_of_ble_eq_true rfl)
theorem b31_6 (d : Nat) (h : J.H) (Q : J.O → J.H → Prop) (x0 x1 s0 : Int) : J.WP d 31 6 [J.I x0, J.I x1] [J.I s0] h Q ↔ Q (Sum.inl (some (J.I s0))) h := by
  exact J.r_iret i31_6 rfl
/-! 32 jdk/internal/util/Preconditions.checkIndex(IILjava/util/function/BiFunction;)I -/
theorem i32_0 : J.cd 32 0 = some (.iload 0, 1, 0, 0, 0) := by decide +kernel
theorem i32_1 : J.cd 32 1 = some (.ifCond .lt 8, 4, 9, 0, 0) := by decide +kernel
theorem i32_4 : J.cd 32 4 = some (.iload 0, 5, 0, 0, 0) := by decide +kernel
theorem i32_5 : J.cd 32 5 = some (.iload 1, 6, 0, 0, 0) := by decide +kernel
theorem i32_6 : J.cd 32 6 = some (.if_icmp .lt 10, 9, 16, 0, 0) := by decide +kernel
theorem i32_9 : J.cd 32 9 = some (.aload 2, 10, 0, 0, 0) := by decide +kernel
theorem i32_10 : J.cd 32 10 = some (.iload 0, 11, 0, 0, 0) := by decide +kernel
theorem i32_11 : J.cd 32 11 = some (.iload 1, 12, 0, 0, 0) := by decide +kernel
theorem i32_16 : J.cd 32 16 = some (.iload 0, 17, 0, 0, 0) := by decide +kernel
theorem i32_17 : J.cd 32 17 = some (.ireturn, 18, 0, 0, 0) := by decide +kernel
theorem b32_0 (d : Nat) (h : J.H) (Q : J.O → J.H → Prop) (x0 x1 x2 : Int) : J.WP d 32 0 [J.I x0, J.I x1, J.R x2] [] h Q ↔ if x0 < 0 then (J.WP d 32 9 [J.I x0, J.I x1, J.R x2] [] h Q) else (if x0 < x1 then (Q (Sum.inl (some (J.I x0))) h) else (J.WP d 32 9 [J.I x0, J.I x1, J.R x2] [] h Q)) := by
  refine (J.r_iload i32_0 rfl).trans ?_
  refine (J.r_iflt i32_1).trans (J.ite2 ?_ ?_)
  · exact Iff.rfl
  · refine (J.r_iload i32_4 rfl).trans ?_
    refine (J.r_iload i32_5 rfl).trans ?_
    refine (J.r_iclt i32_6).trans (J.ite2 ?_ ?_)
    · refine (J.r_iload i32_16 rfl).trans ?_
      exact J.r_iret i32_17 rfl
    · exact Iff.rfl
theorem b32_9 (d : Nat) (h : J.H) (Q : J.O → J.H → Prop) (x0 x1 x2 : Int) : J.WP d 32 9 [J.I x0, J.I x1, J.R x2] [] h Q ↔ J.WP d 32 12 [J.I x0, J.I x1, J.R x2] [J.I x1, J.I x0, J.R x2] h Q := by
  refine (J.r_aload i32_9 rfl).trans ?_
  refine (J.r_iload i32_10 rfl).trans ?_
  refine (J.r_iload i32_11 rfl).trans ?_
  exact Iff.rfl
/-! 33 java/util/ArrayList.elementData(I)Ljava/lang/Object; -/
theorem i33_0 : J.cd 33 0 = some (.aload 0, 1, 0, 0, 0) := by decide +kernel
theorem i33_1 : J.cd 33 1 = some (.getfield 9, 4, 19, 6, 2) := by decide +kernel
theorem i33_4 : J.cd 33 4 = some (.iload 1, 5, 0, 0, 0) := by decide +kernel
theorem i33_5 : J.cd 33 5 = some (.aaload, 6, 5, 0, 0) := by decide +kernel
theorem i33_6 : J.cd 33 6 = some (.areturn, 7, 6, 0, 0) := by decide +kernel
theorem b33_0 (d : Nat) (h : J.H) (Q : J.O → J.H → Prop) (x0 x1 : Int) : J.WP d 33 0 [J.R x0, J.I x1] [] h Q ↔ (J.sb (J.cl h x0) 6 = true) ∧ ((J.isA (J.cl h (J.gv h x0 19)) 2 = true ∧ J.rg x1 (J.ln h (J.gv h x0 19))) ∧ (Q (Sum.inl (some (J.R (J.gv h (J.gv h x0 19) x1)))) h)) := by
  refine (J.r_aload i33_0 rfl).trans ?_
  refine (J.r_getR i33_1).trans (and_congr_right fun q0 => ?_)
  refine (J.r_iload i33_4 rfl).trans ?_
  refine (J.r_aaload i33_5).trans (and_congr_right fun q1 => ?_)
  exact J.r_aret i33_6 rfl
/-! 34 java/util/ArrayList.size()I -/
theorem i34_0 : J.cd 34 0 = some (.aload 0, 1, 0, 0, 0) := by decide +kernel
theorem i34_1 : J.cd 34 1 = some (.getfield 48, 4, 20, 6, 0) := by decide +kernel
theorem i34_4 : J.cd 34 4 = some (.ireturn, 5, 0, 0, 0) := by decide +kernel
theorem b34_0 (d : Nat) (h : J.H) (Q : J.O → J.H → Prop) (x0 : Int) : J.WP d 34 0 [J.R x0] [] h Q ↔ (J.sb (J.cl h x0) 6 = true) ∧ (Q (Sum.inl (some (J.I (J.gv h x0 20)))) h) := by
  refine (J.r_aload i34_0 rfl).trans ?_
  refine (J.r_getI i34_1).trans (and_congr_right fun q0 => ?_)
  exact J.r_iret i34_4 rfl
/-! 43 java/util/ArrayList.clear()V -/
theorem i43_0 : J.cd 43 0 = some (.aload 0, 1, 0, 0, 0) := by decide +kernel
theorem i43_1 : J.cd 43 1 = some (.dup, 2, 1, 0, 0) := by decide +kernel
theorem i43_2 : J.cd 43 2 = some (.getfield 63, 5, 21, 87, 0) := by decide +kernel
theorem i43_5 : J.cd 43 5 = some (.iconst 1, 6, 5, 0, 0) := by decide +kernel
theorem i43_6 : J.cd 43 6 = some (.iadd, 7, 6, 0, 0) := by decide +kernel
theorem i43_7 : J.cd 43 7 = some (.putfield 63, 10, 21, 87, 0) := by decide +kernel
theorem i43_10 : J.cd 43 10 = some (.aload 0, 11, 0, 0, 0) := by decide +kernel
theorem i43_11 : J.cd 43 11 = some (.getfield 9, 14, 19, 6, 2) := by decide +kernel
theorem i43_14 : J.cd 43 14 = some (.astore 1, 15, 0, 0, 0) := by decide +kernel
theorem i43_15 : J.cd 43 15 = some (.aload 0, 16, 0, 0, 0) := by decide +kernel
theorem i43_16 : J.cd 43 16 = some (.getfield 48, 19, 20, 6, 0) := by decide +kernel
theorem i43_19 : J.cd 43 19 = some (.istore 2, 20, 0, 0, 0) := by decide +kernel
theorem i43_20 : J.cd 43 20 = some (.aload 0, 21, 0, 0, 0) := by decide +kernel
theorem i43_21 : J.cd 43 21 = some (.iconst 0, 22, 21, 0, 0) := by decide +kernel
theorem i43_22 : J.cd 43 22 = some (.dup_x1, 23, 22, 0, 0) := by decide +kernel
theorem i43_23 : J.cd 43 23 = some (.putfield 48, 26, 20, 6, 0) := by decide +kernel
theorem i43_26 : J.cd 43 26 = some (.istore 3, 27, 0, 0, 0) := by decide +kernel
theorem i43_27 : J.cd 43 27 = some (.iload 3, 28, 0, 0, 0) := by decide +kernel
theorem i43_28 : J.cd 43 28 = some (.iload 2, 29, 0, 0, 0) := by decide +kernel
theorem i43_29 : J.cd 43 29 = some (.if_icmp .ge 13, 32, 42, 0, 0) := by decide +kernel
theorem i43_32 : J.cd 43 32 = some (.aload 1, 33, 0, 0, 0) := by decide +kernel
theorem i43_33 : J.cd 43 33 = some (.iload 3, 34, 0, 0, 0) := by decide +kernel
theorem i43_34 : J.cd 43 34 = some (.aconst_null, 35, 34, 0, 0) := by decide +kernel
theorem i43_35 : J.cd 43 35 = some (.aastore, 36, 35, 0, 0) := by decide +kernel
theorem i43_36 : J.cd 43 36 = some (.iinc 3 1, 39, 36, 0, 0) := by decide +kernel
theorem i43_39 : J.cd 43 39 = some (.goto (-12), 42, 27, 0, 0) := by decide +kernel
theorem i43_42 : J.cd 43 42 = some (.return_, 43, 42, 0, 0) := by decide +kernel
theorem b43_0 (d : Nat) (h : J.H) (Q : J.O → J.H → Prop) (x0 : Int) : J.WP d 43 0 [J.R x0, J.U, J.U, J.U] [] h Q ↔ (J.sb (J.cl h x0) 87 = true) ∧ ((J.sb (J.cl h x0) 87 = true ∧ J.cl h x0 < 300) ∧ ((J.sb (J.cl h x0) 6 = true) ∧ ((J.sb (J.cl h x0) 6 = true ∧ J.cl h x0 < 300) ∧ (J.WP d 43 27 [J.R x0, J.R (J.gv (J.sv h x0 21 (J.w32 ((J.gv h x0 21) + 1))) x0 19), J.I (J.gv (J.sv h x0 21 (J.w32 ((J.gv h x0 21) + 1))) x0 20), J.I 0] [] (J.sv (J.sv h x0 21 (J.w32 ((J.gv h x0 21) + 1))) x0 20 0) Q)))) := by
  refine (J.r_aload i43_0 rfl).trans ?_
  refine (J.r_dupR i43_1).trans ?_
  refine (J.r_getI i43_2).trans (and_congr_right fun q0 => ?_)
  refine (J.r_iconst i43_5).trans ?_
  refine (J.r_iadd i43_6).trans ?_
  refine (J.r_putI i43_7).trans (and_congr_right fun q1 => ?_)
  refine (J.r_aload i43_10 rfl).trans ?_
  refine (J.r_getR i43_11).trans (and_congr_right fun q2 => ?_)
  refine (J.r_astore i43_14 (Nat.le_of_ble_eq_true rfl) rfl).trans ?_
  refine (J.r_aload i43_15 rfl).trans ?_
  refine (J.r_getI i43_16).trans ((J.tru q2).trans ?_)
  refine (J.r_istore i43_19 (Nat.le_of_ble_eq_true rfl) rfl).trans ?_
  refine (J.r_aload i43_20 rfl).trans ?_
  refine (J.r_iconst i43_21).trans ?_
  refine (J.r_dupx1IR i43_22).trans ?_
  refine (J.r_putI i43_23).trans (and_congr_right fun q3 => ?_)
  refine (J.r_istore i43_26 (Nat.le_of_ble_eq_true rfl) rfl).trans ?_
  exact Iff.rfl
theorem b43_27 (d : Nat) (h : J.H) (Q : J.O → J.H → Prop) (x0 x1 x2 x3 : Int) : J.WP d 43 27 [J.R x0, J.R x1, J.I x2, J.I x3] [] h Q ↔ if x3 < x2 then ((J.cl h x1 < 300 ∧ J.isA (J.cl h x1) 2 = true ∧ J.rg x3 (J.ln h x1) ∧ J.aok h x1 0) ∧ (J.WP d 43 27 [J.R x0, J.R x1, J.I x2, J.I (J.w32 (x3 + 1))] [] (J.sv h x1 x3 0) Q)) else (Q (Sum.inl none) h) := by
  refine (J.r_iload i43_27 rfl).trans ?_
  refine (J.r_iload i43_28 rfl).trans ?_
  refine (J.r_icge i43_29).trans (J.ite2 ?_ ?_)
  · refine (J.r_aload i43_32 rfl).trans ?_
    refine (J.r_iload i43_33 rfl).trans ?_
    refine (J.r_null i43_34).trans ?_
    refine (J.r_aastore i43_35).trans (and_congr_right fun q0 => ?_)
    refine (J.r_iinc i43_36 rfl rfl).trans ?_
    refine (J.r_goto i43_39).trans ?_
    exact Iff.rfl
  · exact J.r_ret i43_42 rfl
/-! 354 java/util/ArrayList.isEmpty()Z -/
theorem i354_0 : J.cd 354 0 = some (.aload 0, 1, 0, 0, 0) := by decide +kernel
theorem i354_1 : J.cd 354 1 = some (.getfield 48, 4, 20, 6, 0) := by decide +kernel
theorem i354_4 : J.cd 354 4 = some (.ifCond .ne 7, 7, 11, 0, 0) := by decide +kernel
theorem i354_7 : J.cd 354 7 = some (.iconst 1, 8, 7, 0, 0) := by decide +kernel
theorem i354_8 : J.cd 354 8 = some (.goto 4, 11, 12, 0, 0) := by decide +kernel
theorem i354_11 : J.cd 354 11 = some (.iconst 0, 12, 11, 0, 0) := by decide +kernel
theorem i354_12 : J.cd 354 12 = some (.ireturn, 13, 0, 0, 3) := by decide +kernel
theorem b354_0 (d : Nat) (h : J.H) (Q : J.O → J.H → Prop) (x0 : Int) : J.WP d 354 0 [J.R x0] [] h Q ↔ (J.sb (J.cl h x0) 6 = true) ∧ (if (J.gv h x0 20) = 0 then (J.WP d 354 12 [J.R x0] [J.I 1] h Q) else (J.WP d 354 12 [J.R x0] [J.I 0] h Q)) := by
  refine (J.r_aload i354_0 rfl).trans ?_
  refine (J.r_getI i354_1).trans (and_congr_right fun q0 => ?_)
  refine (J.r_ifne i354_4).trans (J.ite2 ?_ ?_)
  · refine (J.r_iconst i354_7).trans ?_
    refine (J.r_goto i354_8).trans ?_
    exact Iff.rfl
  · refine (J.r_iconst i354_11).trans ?_
    exact Iff.rfl
theorem b354_12 (d : Nat) (h : J.H) (Q : J.O → J.H → Prop) (x0 s0 : Int) : J.WP d 354 12 [J.R x0] [J.I s0] h Q ↔ (J.zo s0) ∧ Q (Sum.inl (some (J.I s0))) h := by
  exact J.r_iretZ i354_12 rfl
/-! 360 java/util/ArrayList.contains(Ljava/lang/Object;)Z -/
theorem i360_0 : J.cd 360 0 = some (.aload 0, 1, 0, 0, 0) := by decide +kernel
theorem i360_1 : J.cd 360 1 = some (.aload 1, 2, 0, 0, 0) := by decide +kernel
theorem i360_2 : J.cd 360 2 = some (.invokevirtual 85, 5, 227, 1, 0) := by decide +kernel
theorem i360_5 : J.cd 360 5 = some (.ifCond .lt 7, 8, 12, 0, 0) := by decide +kernel
theorem i360_8 : J.cd 360 8 = some (.iconst 1, 9, 8, 0, 0) := by decide +kernel
theorem i360_9 : J.cd 360 9 = some (.goto 4, 12, 13, 0, 0) := by decide +kernel
theorem i360_12 : J.cd 360 12 = some (.iconst 0, 13, 12, 0, 0) := by decide +kernel
theorem i360_13 : J.cd 360 13 = some (.ireturn, 14, 0, 0, 3) := by decide +kernel
theorem b360_0 (d : Nat) (h : J.H) (Q : J.O → J.H → Prop) (x0 x1 : Int) : J.WP d 360 0 [J.R x0, J.R x1] [] h Q ↔ J.cl h x0 = 6 ∧ 0 < d ∧ J.WP (d - 1) 361 0 [J.R x0, J.R x1] [] h (J.af J.WP d 360 2 5 [J.R x0, J.R x1] [] Q) := by
  refine (J.r_aload i360_0 rfl).trans ?_
  refine (J.r_aload i360_1 rfl).trans ?_
  exact J.r_virt1 (k2 := 361) (m := 2) 6 i360_2 rfl (by decide +kernel) (by decide) rfl (Nat.le_of_ble_eq_true rfl)
theorem b360_5 (d : Nat) (h : J.H) (Q : J.O → J.H → Prop) (x0 x1 s0 : Int) : J.WP d 360 5 [J.R x0, J.R x1] [J.I s0] h Q ↔ if s0 < 0 then (J.WP d 360 13 [J.R x0, J.R x1] [J.I 0] h Q) else (J.WP d 360 13 [J.R x0, J.R x1] [J.I 1] h Q) := by
  refine (J.r_iflt i360_5).trans (J.ite2 ?_ ?_)
  · refine (J.r_iconst i360_12).trans ?_
    exact Iff.rfl
  · refine (J.r_iconst i360_8).trans ?_
    refine (J.r_goto i360_9).trans ?_
    exact Iff.rfl
theorem b360_13 (d : Nat) (h : J.H) (Q : J.O → J.H → Prop) (x0 x1 s0 : Int) : J.WP d 360 13 [J.R x0, J.R x1] [J.I s0] h Q ↔ (J.zo s0) ∧ Q (Sum.inl (some (J.I s0))) h := by
  exact J.r_iretZ i360_13 rfl
/-! 361 java/util/ArrayList.indexOf(Ljava/lang/Object;)I -/
theorem i361_0 : J.cd 361 0 = some (.aload 0, 1, 0, 0, 0) := by decide +kernel
theorem i361_1 : J.cd 361 1 = some (.aload 1, 2, 0, 0, 0) := by decide +kernel
theorem i361_2 : J.cd 361 2 = some (.iconst 0, 3, 2, 0, 0) := by decide +kernel
theorem i361_3 : J.cd 361 3 = some (.aload 0, 4, 0, 0, 0) := by decide +kernel
theorem i361_4 : J.cd 361 4 = some (.getfield 48, 7, 20, 6, 0) := by decide +kernel
theorem i361_7 : J.cd 361 7 = some (.invokevirtual 89, 10, 228, 3, 0) := by decide +kernel
theorem i361_10 : J.cd 361 10 = some (.ireturn, 11, 0, 0, 0) := by decide +kernel
theorem b361_0 (d : Nat) (h : J.H) (Q : J.O → J.H → Prop) (x0 x1 : Int) : J.WP d 361 0 [J.R x0, J.R x1] [] h Q ↔ (J.sb (J.cl h x0) 6 = true) ∧ (J.cl h x0 = 6 ∧ 0 < d ∧ J.WP (d - 1) 362 0 [J.R x0, J.R x1, J.I 0, J.I (J.gv h x0 20), J.U, J.U] [] h (J.af J.WP d 361 7 10 [J.R x0, J.R x1] [] Q)) := by
  refine (J.r_aload i361_0 rfl).trans ?_
  refine (J.r_aload i361_1 rfl).trans ?_
  refine (J.r_iconst i361_2).trans ?_
  refine (J.r_aload i361_3 rfl).trans ?_
  refine (J.r_getI i361_4).trans (and_congr_right fun q0 => ?_)
  exact J.r_virt1 (k2 := 362) (m := 6) 6 i361_7 rfl (by decide +kernel) (by decide) rfl (Nat.le_of_ble_eq_true rfl)
theorem b361_10 (d : Nat) (h : J.H) (Q : J.O → J.H → Prop) (x0 x1 s0 : Int) : J.WP d 361 10 [J.R x0, J.R x1] [J.I s0] h Q ↔ Q (Sum.inl (some (J.I s0))) h := by
  exact J.r_iret i361_10 rfl
/-! 362 java/util/ArrayList.indexOfRange(Ljava/lang/Object;II)I -/
theorem i362_0 : J.cd 362 0 = some (.aload 0, 1, 0, 0, 0) := by decide +kernel
theorem i362_1 : J.cd 362 1 = some (.getfield 9, 4, 19, 6, 2) := by decide +kernel
theorem i362_4 : J.cd 362 4 = some (.astore 4, 6, 4, 0, 0) := by decide +kernel
theorem i362_6 : J.cd 362 6 = some (.aload 1, 7, 0, 0, 0) := by decide +kernel
theorem i362_7 : J.cd 362 7 = some (.ifnonnull 32, 10, 39, 0, 0) := by decide +kernel
theorem i362_10 : J.cd 362 10 = some (.iload 2, 11, 0, 0, 0) := by decide +kernel
theorem i362_11 : J.cd 362 11 = some (.istore 5, 13, 11, 0, 0) := by decide +kernel
theorem i362_13 : J.cd 362 13 = some (.iload 5, 15, 13, 0, 0) := by decide +kernel
theorem i362_15 : J.cd 362 15 = some (.iload 3, 16, 0, 0, 0) := by decide +kernel
theorem i362_16 : J.cd 362 16 = some (.if_icmp .ge 20, 19, 36, 0, 0) := by decide +kernel
theorem i362_19 : J.cd 362 19 = some (.aload 4, 21, 19, 0, 0) := by decide +kernel
theorem i362_21 : J.cd 362 21 = some (.iload 5, 23, 21, 0, 0) := by decide +kernel
theorem i362_23 : J.cd 362 23 = some (.aaload, 24, 23, 0, 0) := by decide +kernel
theorem i362_24 : J.cd 362 24 = some (.ifnonnull 6, 27, 30, 0, 0) := by decide +kernel
theorem i362_27 : J.cd 362 27 = some (.iload 5, 29, 27, 0, 0) := by decide +kernel
theorem i362_29 : J.cd 362 29 = some (.ireturn, 30, 0, 0, 0) := by decide +kernel
theorem i362_30 : J.cd 362 30 = some (.iinc 5 1, 33, 30, 0, 0) := by decide +kernel
theorem i362_33 : J.cd 362 33 = some (.goto (-20), 36, 13, 0, 0) := by decide +kernel
theorem i362_36 : J.cd 362 36 = some (.goto 33, 39, 69, 0, 0) := by decide +kernel
theorem i362_39 : J.cd 362 39 = some (.iload 2, 40, 0, 0, 0) := by decide +kernel
theorem i362_40 : J.cd 362 40 = some (.istore 5, 42, 40, 0, 0) := by decide +kernel
theorem i362_42 : J.cd 362 42 = some (.iload 5, 44, 42, 0, 0) := by decide +kernel
theorem i362_44 : J.cd 362 44 = some (.iload 3, 45, 0, 0, 0) := by decide +kernel
theorem i362_45 : J.cd 362 45 = some (.if_icmp .ge 24, 48, 69, 0, 0) := by decide +kernel
theorem i362_48 : J.cd 362 48 = some (.aload 1, 49, 0, 0, 0) := by decide +kernel
theorem i362_49 : J.cd 362 49 = some (.aload 4, 51, 49, 0, 0) := by decide +kernel
theorem i362_51 : J.cd 362 51 = some (.iload 5, 53, 51, 0, 0) := by decide +kernel
theorem i362_53 : J.cd 362 53 = some (.aaload, 54, 53, 0, 0) := by decide +kernel
theorem i362_54 : J.cd 362 54 = some (.invokevirtual 93, 57, 229, 1, 0) := by decide +kernel
theorem i362_57 : J.cd 362 57 = some (.ifCond .eq 6, 60, 63, 0, 0) := by decide +kernel
theorem i362_60 : J.cd 362 60 = some (.iload 5, 62, 60, 0, 0) := by decide +kernel
theorem i362_62 : J.cd 362 62 = some (.ireturn, 63, 0, 0, 0) := by decide +kernel
theorem i362_63 : J.cd 362 63 = some (.iinc 5 1, 66, 63, 0, 0) := by decide +kernel
theorem i362_66 : J.cd 362 66 = some (.goto (-24), 69, 42, 0, 0) := by decide +kernel
theorem i362_69 : J.cd 362 69 = some (.iconst (-1), 70, 69, 0, 0) := by decide +kernel
theorem i362_70 : J.cd 362 70 = some (.ireturn, 71, 0, 0, 0) := by decide +kernel
theorem b362_0 (d : Nat) (h : J.H) (Q : J.O → J.H → Prop) (x0 x1 x2 x3 : Int) : J.WP d 362 0 [J.R x0, J.R x1, J.I x2, J.I x3, J.U, J.U] [] h Q ↔ (J.sb (J.cl h x0) 6 = true) ∧ (if x1 = 0 then (J.WP d 362 13 [J.R x0, J.R x1, J.I x2, J.I x3, J.R (J.gv h x0 19), J.I x2] [] h Q) else (J.WP d 362 42 [J.R x0, J.R x1, J.I x2, J.I x3, J.R (J.gv h x0 19), J.I x2] [] h Q)) := by
  refine (J.r_aload i362_0 rfl).trans ?_
  refine (J.r_getR i362_1).trans (and_congr_right fun q0 => ?_)
  refine (J.r_astore i362_4 (Nat.le_of_ble_eq_true rfl) rfl).trans ?_
  refine (J.r_aload i362_6 rfl).trans ?_
  refine (J.r_ifnonnull i362_7).trans (J.ite2 ?_ ?_)
  · refine (J.r_iload i362_10 rfl).trans ?_
    refine (J.r_istore i362_11 (Nat.le_of_ble_eq_true rfl) rfl).trans ?_
    exact Iff.rfl
  · refine (J.r_iload i362_39 rfl).trans ?_
    refine (J.r_istore i362_40 (Nat.le_of_ble_eq_true rfl) rfl).trans ?_
    exact Iff.rfl
theorem b362_13 (d : Nat) (h : J.H) (Q : J.O → J.H → Prop) (x0 x1 x2 x3 x4 x5 : Int) : J.WP d 362 13 [J.R x0, J.R x1, J.I x2, J.I x3, J.R x4, J.I x5] [] h Q ↔ if x5 < x3 then ((J.isA (J.cl h x4) 2 = true ∧ J.rg x5 (J.ln h x4)) ∧ (if (J.gv h x4 x5) = 0 then (Q (Sum.inl (some (J.I x5))) h) else (J.WP d 362 13 [J.R x0, J.R x1, J.I x2, J.I x3, J.R x4, J.I (J.w32 (x5 + 1))] [] h Q))) else (J.WP d 362 69 [J.R x0, J.R x1, J.I x2, J.I x3, J.R x4, J.I x5] [] h Q) := by
  refine (J.r_iload i362_13 rfl).trans ?_
  refine (J.r_iload i362_15 rfl).trans ?_
  refine (J.r_icge i362_16).trans (J.ite2 ?_ ?_)
  · refine (J.r_aload i362_19 rfl).trans ?_
    refine (J.r_iload i362_21 rfl).trans ?_
    refine (J.r_aaload i362_23).trans (and_congr_right fun q0 => ?_)
    refine (J.r_ifnonnull i362_24).trans (J.ite2 ?_ ?_)
    · refine (J.r_iload i362_27 rfl).trans ?_
      exact J.r_iret i362_29 rfl
    · refine (J.r_iinc i362_30 rfl rfl).trans ?_
      refine (J.r_goto i362_33).trans ?_
      exact Iff.rfl
  · refine (J.r_goto i362_36).trans ?_
    exact Iff.rfl
theorem b362_42 (d : Nat) (h : J.H) (Q : J.O → J.H → Prop) (x0 x1 x2 x3 x4 x5 : Int) : J.WP d 362 42 [J.R x0, J.R x1, J.I x2, J.I x3, J.R x4, J.I x5] [] h Q ↔ if x5 < x3 then ((J.isA (J.cl h x4) 2 = true ∧ J.rg x5 (J.ln h x4)) ∧ (J.WP d 362 54 [J.R x0, J.R x1, J.I x2, J.I x3, J.R x4, J.I x5] [J.R (J.gv h x4 x5), J.R x1] h Q)) else (J.WP d 362 69 [J.R x0, J.R x1, J.I x2, J.I x3, J.R x4, J.I x5] [] h Q) := by
  refine (J.r_iload i362_42 rfl).trans ?_
  refine (J.r_iload i362_44 rfl).trans ?_
  refine (J.r_icge i362_45).trans (J.ite2 ?_ ?_)
  · refine (J.r_aload i362_48 rfl).trans ?_
    refine (J.r_aload i362_49 rfl).trans ?_
    refine (J.r_iload i362_51 rfl).trans ?_
    refine (J.r_aaload i362_53).trans (and_congr_right fun q0 => ?_)
    exact Iff.rfl
  · exact Iff.rfl
theorem b362_54_c1 (d : Nat) (h : J.H) (Q : J.O → J.H → Prop) (x0 x1 x2 x3 x4 x5 s0 s1 : Int) (hq : J.cl h s0 = 1) : J.WP d 362 54 [J.R x0, J.R x1, J.I x2, J.I x3, J.R x4, J.I x5] [J.R s1, J.R s0] h Q ↔ 0 < d ∧ J.WP (d - 1) 364 0 [J.R s0, J.R s1] [] h (J.af J.WP d 362 54 57 [J.R x0, J.R x1, J.I x2, J.I x3, J.R x4, J.I x5] [] Q) := by
  exact J.r_virt (k2 := 364) (m := 2) i362_54 rfl 1 hq (by decide +kernel) (by decide) rfl (Nat.le_of_ble_eq_true rfl)
theorem b362_54_c2 (d : Nat) (h : J.H) (Q : J.O → J.H → Prop) (x0 x1 x2 x3 x4 x5 s0 s1 : Int) (hq : J.cl h s0 = 2) : J.WP d 362 54 [J.R x0, J.R x1, J.I x2, J.I x3, J.R x4, J.I x5] [J.R s1, J.R s0] h Q ↔ 0 < d ∧ J.WP (d - 1) 364 0 [J.R s0, J.R s1] [] h (J.af J.WP d 362 54 57 [J.R x0, J.R x1, J.I x2, J.I x3, J.R x4, J.I x5] [] Q) := by
  exact J.r_virt (k2 := 364) (m := 2) i362_54 rfl 2 hq (by decide +kernel) (by decide) rfl (Nat.le_of_ble_eq_true rfl)
theorem b362_54_c3 (d : Nat) (h : J.H) (Q : J.O → J.H → Prop) (x0 x1 x2 x3 x4 x5 s0 s1 : Int) (hq : J.cl h s0 = 3) : J.WP d 362 54 [J.R x0, J.R x1, J.I x2, J.I x3, J.R x4, J.I x5] [J.R s1, J.R s0] h Q ↔ 0 < d ∧ J.WP (d - 1) 364 0 [J.R s0, J.R s1] [] h (J.af J.WP d 362 54 57 [J.R x0, J.R x1, J.I x2, J.I x3, J.R x4, J.I x5] [] Q) := by
  exact J.r_virt (k2 := 364) (m := 2) i362_54 rfl 3 hq (by decide +kernel) (by decide) rfl (Nat.le_of_ble_eq_true rfl)
theorem b362_54_c4 (d : Nat) (h : J.H) (Q : J.O → J.H → Prop) (x0 x1 x2 x3 x4 x5 s0 s1 : Int) (hq : J.cl h s0 = 4) : J.WP d 362 54 [J.R x0, J.R x1, J.I x2, J.I x3, J.R x4, J.I x5] [J.R s1, J.R s0] h Q ↔ 0 < d ∧ J.WP (d - 1) 364 0 [J.R s0, J.R s1] [] h (J.af J.WP d 362 54 57 [J.R x0, J.R x1, J.I x2, J.I x3, J.R x4, J.I x5] [] Q) := by
  exact J.r_virt (k2 := 364) (m := 2) i362_54 rfl 4 hq (by decide +kernel) (by decide) rfl (Nat.le_of_ble_eq_true rfl)
theorem b362_54_c5 (d : Nat) (h : J.H) (Q : J.O → J.H → Prop) (x0 x1 x2 x3 x4 x5 s0 s1 : Int) (hq : J.cl h s0 = 5) : J.WP d 362 54 [J.R x0, J.R x1, J.I x2, J.I x3, J.R x4, J.I x5] [J.R s1, J.R s0] h Q ↔ 0 < d ∧ J.WP (d - 1) 364 0 [J.R s0, J.R s1] [] h (J.af J.WP d 362 54 57 [J.R x0, J.R x1, J.I x2, J.I x3, J.R x4, J.I x5] [] Q) := by
  exact J.r_virt (k2 := 364) (m := 2) i362_54 rfl 5 hq (by decide +kernel) (by decide) rfl (Nat.le_of_ble_eq_true rfl)
theorem b362_54_c7 (d : Nat) (h : J.H) (Q : J.O → J.H → Prop) (x0 x1 x2 x3 x4 x5 s0 s1 : Int) (hq : J.cl h s0 = 7) : J.WP d 362 54 [J.R x0, J.R x1, J.I x2, J.I x3, J.R x4, J.I x5] [J.R s1, J.R s0] h Q ↔ 0 < d ∧ J.WP (d - 1) 364 0 [J.R s0, J.R s1] [] h (J.af J.WP d 362 54 57 [J.R x0, J.R x1, J.I x2, J.I x3, J.R x4, J.I x5] [] Q) := by
  exact J.r_virt (k2 := 364) (m := 2) i362_54 rfl 7 hq (by decide +kernel) (by decide) rfl (Nat.le_of_ble_eq_true rfl)
theorem b362_54_c8 (d : Nat) (h : J.H) (Q : J.O → J.H → Prop) (x0 x1 x2 x3 x4 x5 s0 s1 : Int) (hq : J.cl h s0 = 8) : J.WP d 362 54 [J.R x0, J.R x1, J.I x2, J.I x3, J.R x4, J.I x5] [J.R s1, J.R s0] h Q ↔ 0 < d ∧ J.WP (d - 1) 364 0 [J.R s0, J.R s1] [] h (J.af J.WP d 362 54 57 [J.R x0, J.R x1, J.I x2, J.I x3, J.R x4, J.I x5] [] Q) := by
  exact J.r_virt (k2 := 364) (m := 2) i362_54 rfl 8 hq (by decide +kernel) (by decide) rfl (Nat.le_of_ble_eq_true rfl)
theorem b362_54_c9 (d : Nat) (h : J.H) (Q : J.O → J.H → Prop) (x0 x1 x2 x3 x4 x5 s0 s1 : Int) (hq : J.cl h s0 = 9) : J.WP d 362 54 [J.R x0, J.R x1, J.I x2, J.I x3, J.R x4, J.I x5] [J.R s1, J.R s0] h Q ↔ 0 < d ∧ J.WP (d - 1) 364 0 [J.R s0, J.R s1] [] h (J.af J.WP d 362 54 57 [J.R x0, J.R x1, J.I x2, J.I x3, J.R x4, J.I x5] [] Q) := by
  exact J.r_virt (k2 := 364) (m := 2) i362_54 rfl 9 hq (by decide +kernel) (by decide) rfl (Nat.le_of_ble_eq_true rfl)
theorem b362_54_c10 (d : Nat) (h : J.H) (Q : J.O → J.H → Prop) (x0 x1 x2 x3 x4 x5 s0 s1 : Int) (hq : J.cl h s0 = 10) : J.WP d 362 54 [J.R x0, J.R x1, J.I x2, J.I x3, J.R x4, J.I x5] [J.R s1, J.R s0] h Q ↔ 0 < d ∧ J.WP (d - 1) 364 0 [J.R s0, J.R s1] [] h (J.af J.WP d 362 54 57 [J.R x0, J.R x1, J.I x2, J.I x3, J.R x4, J.I x5] [] Q) := by
  exact J.r_virt (k2 := 364) (m := 2) i362_54 rfl 10 hq (by decide +kernel) (by decide) rfl (Nat.le_of_ble_eq_true rfl)
theorem b362_54_c11 (d : Nat) (h : J.H) (Q : J.O → J.H → Prop) (x0 x1 x2 x3 x4 x5 s0 s1 : Int) (hq : J.cl h s0 = 11) : J.WP d 362 54 [J.R x0, J.R x1, J.I x2, J.I x3, J.R x4, J.I x5] [J.R s1, J.R s0] h Q ↔ 0 < d ∧ J.WP (d - 1) 364 0 [J.R s0, J.R s1] [] h (J.af J.WP d 362 54 57 [J.R x0, J.R x1, J.I x2, J.I x3, J.R x4, J.I x5] [] Q) := by
  exact J.r_virt (k2 := 364) (m := 2) i362_54 rfl 11 hq (by decide +kernel) (by decide) rfl (Nat.le_of_ble_eq_true rfl)
theorem b362_54_c12 (d : Nat) (h : J.H) (Q : J.O → J.H → Prop) (x0 x1 x2 x3 x4 x5 s0 s1 : Int) (hq : J.cl h s0 = 12) : J.WP d 362 54 [J.R x0, J.R x1, J.I x2, J.I x3, J.R x4, J.I x5] [J.R s1, J.R s0] h Q ↔ 0 < d ∧ J.WP (d - 1) 364 0 [J.R s0, J.R s1] [] h (J.af J.WP d 362 54 57 [J.R x0, J.R x1, J.I x2, J.I x3, J.R x4, J.I x5] [] Q) := by
  exact J.r_virt (k2 := 364) (m := 2) i362_54 rfl 12 hq (by decide +kernel) (by decide) rfl (Nat.le_of_ble_eq_true rfl)
theorem b362_54_c13 (d : Nat) (h : J.H) (Q : J.O → J.H → Prop) (x0 x1 x2 x3 x4 x5 s0 s1 : Int) (hq : J.cl h s0 = 13) : J.WP d 362 54 [J.R x0, J.R x1, J.I x2, J.I x3, J.R x4, J.I x5] [J.R s1, J.R s0] h Q ↔ 0 < d ∧ J.WP (d - 1) 364 0 [J.R s0, J.R s1] [] h (J.af J.WP d 362 54 57 [J.R x0, J.R x1, J.I x2, J.I x3, J.R x4, J.I x5] [] Q) := by
  exact J.r_virt (k2 := 364) (m := 2) i362_54 rfl 13 hq (by decide +kernel) (by decide) rfl (Nat.le_of_ble_eq_true rfl)
theorem b362_54_c14 (d : Nat) (h : J.H) (Q : J.O → J.H → Prop) (x0 x1 x2 x3 x4 x5 s0 s1 : Int) (hq : J.cl h s0 = 14) : J.WP d 362 54 [J.R x0, J.R x1, J.I x2, J.I x3, J.R x4, J.I x5] [J.R s1, J.R s0] h Q ↔ 0 < d ∧ J.WP (d - 1) 364 0 [J.R s0, J.R s1] [] h (J.af J.WP d 362 54 57 [J.R x0, J.R x1, J.I x2, J.I x3, J.R x4, J.I x5] [] Q) := by
  exact J.r_virt (k2 := 364) (m := 2) i362_54 rfl 14 hq (by decide +kernel) (by decide) rfl (Nat.le_of_ble_eq_true rfl)
theorem b362_54_c15 (d : Nat) (h : J.H) (Q : J.O → J.H → Prop) (x0 x1 x2 x3 x4 x5 s0 s1 : Int) (hq : J.cl h s0 = 15) : J.WP d 362 54 [J.R x0, J.R x1, J.I x2, J.I x3, J.R x4, J.I x5] [J.R s1, J.R s0] h Q ↔ 0 < d ∧ J.WP (d - 1) 364 0 [J.R s0, J.R s1] [] h (J.af J.WP d 362 54 57 [J.R x0, J.R x1, J.I x2, J.I x3, J.R x4, J.I x5] [] Q) := by
  exact J.r_virt (k2 := 364) (m := 2) i362_54 rfl 15 hq (by decide +kernel) (by decide) rfl (Nat.le_of_ble_eq_true rfl)
theorem b362_54_c16 (d : Nat) (h : J.H) (Q : J.O → J.H → Prop) (x0 x1 x2 x3 x4 x5 s0 s1 : Int) (hq : J.cl h s0 = 16) : J.WP d 362 54 [J.R x0, J.R x1, J.I x2, J.I x3, J.R x4, J.I x5] [J.R s1, J.R s0] h Q ↔ 0 < d ∧ J.WP (d - 1) 364 0 [J.R s0, J.R s1] [] h (J.af J.WP d 362 54 57 [J.R x0, J.R x1, J.I x2, J.I x3, J.R x4, J.I x5] [] Q) := by
  exact J.r_virt (k2 := 364) (m := 2) i362_54 rfl 16 hq (by decide +kernel) (by decide) rfl (Nat.le_of_ble_eq_true rfl)
theorem b362_54_c17 (d : Nat) (h : J.H) (Q : J.O → J.H → Prop) (x0 x1 x2 x3 x4 x5 s0 s1 : Int) (hq : J.cl h s0 = 17) : J.WP d 362 54 [J.R x0, J.R x1, J.I x2, J.I x3, J.R x4, J.I x5] [J.R s1, J.R s0] h Q ↔ 0 < d ∧ J.WP (d - 1) 364 0 [J.R s0, J.R s1] [] h (J.af J.WP d 362 54 57 [J.R x0, J.R x1, J.I x2, J.I x3, J.R x4, J.I x5] [] Q) := by
  exact J.r_virt (k2 := 364) (m := 2) i362_54 rfl 17 hq (by decide +kernel) (by decide) rfl (Nat.le_of_ble_eq_true rfl)
theorem b362_54_c18 (d : Nat) (h : J.H) (Q : J.O → J.H → Prop) (x0 x1 x2 x3 x4 x5 s0 s1 : Int) (hq : J.cl h s0 = 18) : J.WP d 362 54 [J.R x0, J.R x1, J.I x2, J.I x3, J.R x4, J.I x5] [J.R s1, J.R s0] h Q ↔ 0 < d ∧ J.WP (d - 1) 364 0 [J.R s0, J.R s1] [] h (J.af J.WP d 362 54 57 [J.R x0, J.R x1, J.I x2, J.I x3, J.R x4, J.I x5] [] Q) := by
  exact J.r_virt (k2 := 364) (m := 2) i362_54 rfl 18 hq (by decide +kernel) (by decide) rfl (Nat.le_of_ble_eq_true rfl)
theorem b362_54_c19 (d : Nat) (h : J.H) (Q : J.O → J.H → Prop) (x0 x1 x2 x3 x4 x5 s0 s1 : Int) (hq : J.cl h s0 = 19) : J.WP d 362 54 [J.R x0, J.R x1, J.I x2, J.I x3, J.R x4, J.I x5] [J.R s1, J.R s0] h Q ↔ 0 < d ∧ J.WP (d - 1) 364 0 [J.R s0, J.R s1] [] h (J.af J.WP d 362 54 57 [J.R x0, J.R x1, J.I x2, J.I x3, J.R x4, J.I x5] [] Q) := by
  exact J.r_virt (k2 := 364) (m := 2) i362_54 rfl 19 hq (by decide +kernel) (by decide) rfl (Nat.le_of_ble_eq_true rfl)
theorem b362_54_c20 (d : Nat) (h : J.H) (Q : J.O → J.H → Prop) (x0 x1 x2 x3 x4 x5 s0 s1 : Int) (hq : J.cl h s0 = 20) : J.WP d 362 54 [J.R x0, J.R x1, J.I x2, J.I x3, J.R x4, J.I x5] [J.R s1, J.R s0] h Q ↔ 0 < d ∧ J.WP (d - 1) 364 0 [J.R s0, J.R s1] [] h (J.af J.WP d 362 54 57 [J.R x0, J.R x1, J.I x2, J.I x3, J.R x4, J.I x5] [] Q) := by
  exact J.r_virt (k2 := 364) (m := 2) i362_54 rfl 20 hq (by decide +kernel) (by decide) rfl (Nat.le_of_ble_eq_true rfl)
theorem b362_54_c21 (d : Nat) (h : J.H) (Q : J.O → J.H → Prop) (x0 x1 x2 x3 x4 x5 s0 s1 : Int) (hq : J.cl h s0 = 21) : J.WP d 362 54 [J.R x0, J.R x1, J.I x2, J.I x3, J.R x4, J.I x5] [J.R s1, J.R s0] h Q ↔ 0 < d ∧ J.WP (d - 1) 364 0 [J.R s0, J.R s1] [] h (J.af J.WP d 362 54 57 [J.R x0, J.R x1, J.I x2, J.I x3, J.R x4, J.I x5] [] Q) := by
  exact J.r_virt (k2 := 364) (m := 2) i362_54 rfl 21 hq (by decide +kernel) (by decide) rfl (Nat.le_of_ble_eq_true rfl)
theorem b362_54_c23 (d : Nat) (h : J.H) (Q : J.O → J.H → Prop) (x0 x1 x2 x3 x4 x5 s0 s1 : Int) (hq : J.cl h s0 = 23) : J.WP d 362 54 [J.R x0, J.R x1, J.I x2, J.I x3, J.R x4, J.I x5] [J.R s1, J.R s0] h Q ↔ 0 < d ∧ J.WP (d - 1) 142 0 [J.R s0, J.R s1, J.U] [] h (J.af J.WP d 362 54 57 [J.R x0, J.R x1, J.I x2, J.I x3, J.R x4, J.I x5] [] Q) := by
  exact J.r_virt (k2 := 142) (m := 3) i362_54 rfl 23 hq (by decide +kernel) (by decide) rfl (Nat.le_of_ble_eq_true rfl)
theorem b362_54_c24 (d : Nat) (h : J.H) (Q : J.O → J.H → Prop) (x0 x1 x2 x3 x4 x5 s0 s1 : Int) (hq : J.cl h s0 = 24) : J.WP d 362 54 [J.R x0, J.R x1, J.I x2, J.I x3, J.R x4, J.I x5] [J.R s1, J.R s0] h Q ↔ 0 < d ∧ J.WP (d - 1) 364 0 [J.R s0, J.R s1] [] h (J.af J.WP d 362 54 57 [J.R x0, J.R x1, J.I x2, J.I x3, J.R x4, J.I x5] [] Q) := by
  exact J.r_virt (k2 := 364) (m := 2) i362_54 rfl 24 hq (by decide +kernel) (by decide) rfl (Nat.le_of_ble_eq_true rfl)
theorem b362_54_c25 (d : Nat) (h : J.H) (Q : J.O → J.H → Prop) (x0 x1 x2 x3 x4 x5 s0 s1 : Int) (hq : J.cl h s0 = 25) : J.WP d 362 54 [J.R x0, J.R x1, J.I x2, J.I x3, J.R x4, J.I x5] [J.R s1, J.R s0] h Q ↔ 0 < d ∧ J.WP (d - 1) 364 0 [J.R s0, J.R s1] [] h (J.af J.WP d 362 54 57 [J.R x0, J.R x1, J.I x2, J.I x3, J.R x4, J.I x5] [] Q) := by
  exact J.r_virt (k2 := 364) (m := 2) i362_54 rfl 25 hq (by decide +kernel) (by decide) rfl (Nat.le_of_ble_eq_true rfl)
theorem b362_54_c26 (d : Nat) (h : J.H) (Q : J.O → J.H → Prop) (x0 x1 x2 x3 x4 x5 s0 s1 : Int) (hq : J.cl h s0 = 26) : J.WP d 362 54 [J.R x0, J.R x1, J.I x2, J.I x3, J.R x4, J.I x5] [J.R s1, J.R s0] h Q ↔ 0 < d ∧ J.WP (d - 1) 364 0 [J.R s0, J.R s1] [] h (J.af J.WP d 362 54 57 [J.R x0, J.R x1, J.I x2, J.I x3, J.R x4, J.I x5] [] Q) := by
  exact J.r_virt (k2 := 364) (m := 2) i362_54 rfl 26 hq (by decide +kernel) (by decide) rfl (Nat.le_of_ble_eq_true rfl)
theorem b362_54_c27 (d : Nat) (h : J.H) (Q : J.O → J.H → Prop) (x0 x1 x2 x3 x4 x5 s0 s1 : Int) (hq : J.cl h s0 = 27) : J.WP d 362 54 [J.R x0, J.R x1, J.I x2, J.I x3, J.R x4, J.I x5] [J.R s1, J.R s0] h Q ↔ 0 < d ∧ J.WP (d - 1) 364 0 [J.R s0, J.R s1] [] h (J.af J.WP d 362 54 57 [J.R x0, J.R x1, J.I x2, J.I x3, J.R x4, J.I x5] [] Q) := by
  exact J.r_virt (k2 := 364) (m := 2) i362_54 rfl 27 hq (by decide +kernel) (by decide) rfl (Nat.le_of_ble_eq_true rfl)
theorem b362_54_c28 (d : Nat) (h : J.H) (Q : J.O → J.H → Prop) (x0 x1 x2 x3 x4 x5 s0 s1 : Int) (hq : J.cl h s0 = 28) : J.WP d 362 54 [J.R x0, J.R x1, J.I x2, J.I x3, J.R x4, J.I x5] [J.R s1, J.R s0] h Q ↔ 0 < d ∧ J.WP (d - 1) 364 0 [J.R s0, J.R s1] [] h (J.af J.WP d 362 54 57 [J.R x0, J.R x1, J.I x2, J.I x3, J.R x4, J.I x5] [] Q) := by
  exact J.r_virt (k2 := 364) (m := 2) i362_54 rfl 28 hq (by decide +kernel) (by decide) rfl (Nat.le_of_ble_eq_true rfl)
theorem b362_54_c29 (d : Nat) (h : J.H) (Q : J.O → J.H → Prop) (x0 x1 x2 x3 x4 x5 s0 s1 : Int) (hq : J.cl h s0 = 29) : J.WP d 362 54 [J.R x0, J.R x1, J.I x2, J.I x3, J.R x4, J.I x5] [J.R s1, J.R s0] h Q ↔ 0 < d ∧ J.WP (d - 1) 364 0 [J.R s0, J.R s1] [] h (J.af J.WP d 362 54 57 [J.R x0, J.R x1, J.I x2, J.I x3, J.R x4, J.I x5] [] Q) := by
  exact J.r_virt (k2 := 364) (m := 2) i362_54 rfl 29 hq (by decide +kernel) (by decide) rfl (Nat.le_of_ble_eq_true rfl)
theorem b362_54_c30 (d : Nat) (h : J.H) (Q : J.O → J.H → Prop) (x0 x1 x2 x3 x4 x5 s0 s1 : Int) (hq : J.cl h s0 = 30) : J.WP d 362 54 [J.R x0, J.R x1, J.I x2, J.I x3, J.R x4, J.I x5] [J.R s1, J.R s0] h Q ↔ 0 < d ∧ J.WP (d - 1) 364 0 [J.R s0, J.R s1] [] h (J.af J.WP d 362 54 57 [J.R x0, J.R x1, J.I x2, J.I x3, J.R x4, J.I x5] [] Q) := by
  exact J.r_virt (k2 := 364) (m := 2) i362_54 rfl 30 hq (by decide +kernel) (by decide) rfl (Nat.le_of_ble_eq_true rfl)
theorem b362_54_c31 (d : Nat) (h : J.H) (Q : J.O → J.H → Prop) (x0 x1 x2 x3 x4 x5 s0 s1 : Int) (hq : J.cl h s0 = 31) : J.WP d 362 54 [J.R x0, J.R x1, J.I x2, J.I x3, J.R x4, J.I x5] [J.R s1, J.R s0] h Q ↔ 0 < d ∧ J.WP (d - 1) 364 0 [J.R s0, J.R s1] [] h (J.af J.WP d 362 54 57 [J.R x0, J.R x1, J.I x2, J.I x3, J.R x4, J.I x5] [] Q) := by
  exact J.r_virt (k2 := 364) (m := 2) i362_54 rfl 31 hq (by decide +kernel) (by decide) rfl (Nat.le_of_ble_eq_true rfl)
theorem b362_54_c32 (d : Nat) (h : J.H) (Q : J.O → J.H → Prop) (x0 x1 x2 x3 x4 x5 s0 s1 : Int) (hq : J.cl h s0 = 32) : J.WP d 362 54 [J.R x0, J.R x1, J.I x2, J.I x3, J.R x4, J.I x5] [J.R s1, J.R s0] h Q ↔ 0 < d ∧ J.WP (d - 1) 364 0 [J.R s0, J.R s1] [] h (J.af J.WP d 362 54 57 [J.R x0, J.R x1, J.I x2, J.I x3, J.R x4, J.I x5] [] Q) := by
  exact J.r_virt (k2 := 364) (m := 2) i362_54 rfl 32 hq (by decide +kernel) (by decide) rfl (Nat.le_of_ble_eq_true rfl)
theorem b362_54_c33 (d : Nat) (h : J.H) (Q : J.O → J.H → Prop) (x0 x1 x2 x3 x4 x5 s0 s1 : Int) (hq : J.cl h s0 = 33) : J.WP d 362 54 [J.R x0, J.R x1, J.I x2, J.I x3, J.R x4, J.I x5] [J.R s1, J.R s0] h Q ↔ 0 < d ∧ J.WP (d - 1) 364 0 [J.R s0, J.R s1] [] h (J.af J.WP d 362 54 57 [J.R x0, J.R x1, J.I x2, J.I x3, J.R x4, J.I x5] [] Q) := by
  exact J.r_virt (k2 := 364) (m := 2) i362_54 rfl 33 hq (by decide +kernel) (by decide) rfl (Nat.le_of_ble_eq_true rfl)
theorem b362_54_c34 (d : Nat) (h : J.H) (Q : J.O → J.H → Prop) (x0 x1 x2 x3 x4 x5 s0 s1 : Int) (hq : J.cl h s0 = 34) : J.WP d 362 54 [J.R x0, J.R x1, J.I x2, J.I x3, J.R x4, J.I x5] [J.R s1, J.R s0] h Q ↔ 0 < d ∧ J.WP (d - 1) 364 0 [J.R s0, J.R s1] [] h (J.af J.WP d 362 54 57 [J.R x0, J.R x1, J.I x2, J.I x3, J.R x4, J.I x5] [] Q) := by
  exact J.r_virt (k2 := 364) (m := 2) i362_54 rfl 34 hq (by decide +kernel) (by decide) rfl (Nat.le_of_ble_eq_true rfl)
theorem b362_54_c35 (d : Nat) (h : J.H) (Q : J.O → J.H → Prop) (x0 x1 x2 x3 x4 x5 s0 s1 : Int) (hq : J.cl h s0 = 35) : J.WP d 362 54 [J.R x0, J.R x1, J.I x2, J.I x3, J.R x4, J.I x5] [J.R s1, J.R s0] h Q ↔ 0 < d ∧ J.WP (d - 1) 364 0 [J.R s0, J.R s1] [] h (J.af J.WP d 362 54 57 [J.R x0, J.R x1, J.I x2, J.I x3, J.R x4, J.I x5] [] Q) := by
  exact J.r_virt (k2 := 364) (m := 2) i362_54 rfl 35 hq (by decide +kernel) (by decide) rfl (Nat.le_of_ble_eq_true rfl)
theorem b362_54_c36 (d : Nat) (h : J.H) (Q : J.O → J.H → Prop) (x0 x1 x2 x3 x4 x5 s0 s1 : Int) (hq : J.cl h s0 = 36) : J.WP d 362 54 [J.R x0, J.R x1, J.I x2, J.I x3, J.R x4, J.I x5] [J.R s1, J.R s0] h Q ↔ 0 < d ∧ J.WP (d - 1) 364 0 [J.R s0, J.R s1] [] h (J.af J.WP d 362 54 57 [J.R x0, J.R x1, J.I x2, J.I x3, J.R x4, J.I x5] [] Q) := by
  exact J.r_virt (k2 := 364) (m := 2) i362_54 rfl 36 hq (by decide +kernel) (by decide) rfl (Nat.le_of_ble_eq_true rfl)
theorem b362_54_c37 (d : Nat) (h : J.H) (Q : J.O → J.H → Prop) (x0 x1 x2 x3 x4 x5 s0 s1 : Int) (hq : J.cl h s0 = 37) : J.WP d 362 54 [J.R x0, J.R x1, J.I x2, J.I x3, J.R x4, J.I x5] [J.R s1, J.R s0] h Q ↔ 0 < d ∧ J.WP (d - 1) 364 0 [J.R s0, J.R s1] [] h (J.af J.WP d 362 54 57 [J.R x0, J.R x1, J.I x2, J.I x3, J.R x4, J.I x5] [] Q) := by
  exact J.r_virt (k2 := 364) (m := 2) i362_54 rfl 37 hq (by decide +kernel) (by decide) rfl (Nat.le_of_ble_eq_true rfl)
theorem b362_54_c38 (d : Nat) (h : J.H) (Q : J.O → J.H → Prop) (x0 x1 x2 x3 x4 x5 s0 s1 : Int) (hq : J.cl h s0 = 38) : J.WP d 362 54 [J.R x0, J.R x1, J.I x2, J.I x3, J.R x4, J.I x5] [J.R s1, J.R s0] h Q ↔ 0 < d ∧ J.WP (d - 1) 364 0 [J.R s0, J.R s1] [] h (J.af J.WP d 362 54 57 [J.R x0, J.R x1, J.I x2, J.I x3, J.R x4, J.I x5] [] Q) := by
  exact J.r_virt (k2 := 364) (m := 2) i362_54 rfl 38 hq (by decide +kernel) (by decide) rfl (Nat.le_of_ble_eq_true rfl)
theorem b362_54_c39 (d : Nat) (h : J.H) (Q : J.O → J.H → Prop) (x0 x1 x2 x3 x4 x5 s0 s1 : Int) (hq : J.cl h s0 = 39) : J.WP d 362 54 [J.R x0, J.R x1, J.I x2, J.I x3, J.R x4, J.I x5] [J.R s1, J.R s0] h Q ↔ 0 < d ∧ J.WP (d - 1) 364 0 [J.R s0, J.R s1] [] h (J.af J.WP d 362 54 57 [J.R x0, J.R x1, J.I x2, J.I x3, J.R x4, J.I x5] [] Q) := by
  exact J.r_virt (k2 := 364) (m := 2) i362_54 rfl 39 hq (by decide +kernel) (by decide) rfl (Nat.le_of_ble_eq_true rfl)
theorem b362_54_c40 (d : Nat) (h : J.H) (Q : J.O → J.H → Prop) (x0 x1 x2 x3 x4 x5 s0 s1 : Int) (hq : J.cl h s0 = 40) : J.WP d 362 54 [J.R x0, J.R x1, J.I x2, J.I x3, J.R x4, J.I x5] [J.R s1, J.R s0] h Q ↔ 0 < d ∧ J.WP (d - 1) 364 0 [J.R s0, J.R s1] [] h (J.af J.WP d 362 54 57 [J.R x0, J.R x1, J.I x2, J.I x3, J.R x4, J.I x5] [] Q) := by
  exact J.r_virt (k2 := 364) (m := 2) i362_54 rfl 40 hq (by decide +kernel) (by decide) rfl (Nat.le_of_ble_eq_true rfl)
theorem b362_54_c41 (d : Nat) (h : J.H) (Q : J.O → J.H → Prop) (x0 x1 x2 x3 x4 x5 s0 s1 : Int) (hq : J.cl h s0 = 41) : J.WP d 362 54 [J.R x0, J.R x1, J.I x2, J.I x3, J.R x4, J.I x5] [J.R s1, J.R s0] h Q ↔ 0 < d ∧ J.WP (d - 1) 364 0 [J.R s0, J.R s1] [] h (J.af J.WP d 362 54 57 [J.R x0, J.R x1, J.I x2, J.I x3, J.R x4, J.I x5] [] Q) := by
  exact J.r_virt (k2 := 364) (m := 2) i362_54 rfl 41 hq (by decide +kernel) (by decide) rfl (Nat.le_of_ble_eq_true rfl)
theorem b362_54_c42 (d : Nat) (h : J.H) (Q : J.O → J.H → Prop) (x0 x1 x2 x3 x4 x5 s0 s1 : Int) (hq : J.cl h s0 = 42) : J.WP d 362 54 [J.R x0, J.R x1, J.I x2, J.I x3, J.R x4, J.I x5] [J.R s1, J.R s0] h Q ↔ 0 < d ∧ J.WP (d - 1) 364 0 [J.R s0, J.R s1] [] h (J.af J.WP d 362 54 57 [J.R x0, J.R x1, J.I x2, J.I x3, J.R x4, J.I x5] [] Q) := by
  exact J.r_virt (k2 := 364) (m := 2) i362_54 rfl 42 hq (by decide +kernel) (by decide) rfl (Nat.le_of_ble_eq_true rfl)
theorem b362_54_c43 (d : Nat) (h : J.H) (Q : J.O → J.H → Prop) (x0 x1 x2 x3 x4 x5 s0 s1 : Int) (hq : J.cl h s0 = 43) : J.WP d 362 54 [J.R x0, J.R x1, J.I x2, J.I x3, J.R x4, J.I x5] [J.R s1, J.R s0] h Q ↔ 0 < d ∧ J.WP (d - 1) 364 0 [J.R s0, J.R s1] [] h (J.af J.WP d 362 54 57 [J.R x0, J.R x1, J.I x2, J.I x3, J.R x4, J.I x5] [] Q) := by
  exact J.r_virt (k2 := 364) (m := 2) i362_54 rfl 43 hq (by decide +kernel) (by decide) rfl (Nat.le_of_ble_eq_true rfl)
theorem b362_54_c44 (d : Nat) (h : J.H) (Q : J.O → J.H → Prop) (x0 x1 x2 x3 x4 x5 s0 s1 : Int) (hq : J.cl h s0 = 44) : J.WP d 362 54 [J.R x0, J.R x1, J.I x2, J.I x3, J.R x4, J.I x5] [J.R s1, J.R s0] h Q ↔ 0 < d ∧ J.WP (d - 1) 364 0 [J.R s0, J.R s1] [] h (J.af J.WP d 362 54 57 [J.R x0, J.R x1, J.I x2, J.I x3, J.R x4, J.I x5] [] Q) := by
  exact J.r_virt (k2 := 364) (m := 2) i362_54 rfl 44 hq (by decide +kernel) (by decide) rfl (Nat.le_of_ble_eq_true rfl)
theorem b362_54_c45 (d : Nat) (h : J.H) (Q : J.O → J.H → Prop) (x0 x1 x2 x3 x4 x5 s0 s1 : Int) (hq : J.cl h s0 = 45) : J.WP d 362 54 [J.R x0, J.R x1, J.I x2, J.I x3, J.R x4, J.I x5] [J.R s1, J.R s0] h Q ↔ 0 < d ∧ J.WP (d - 1) 364 0 [J.R s0, J.R s1] [] h (J.af J.WP d 362 54 57 [J.R x0, J.R x1, J.I x2, J.I x3, J.R x4, J.I x5] [] Q) := by
  exact J.r_virt (k2 := 364) (m := 2) i362_54 rfl 45 hq (by decide +kernel) (by decide) rfl (Nat.le_of_ble_eq_true rfl)
theorem b362_54_c46 (d : Nat) (h : J.H) (Q : J.O → J.H → Prop) (x0 x1 x2 x3 x4 x5 s0 s1 : Int) (hq : J.cl h s0 = 46) : J.WP d 362 54 [J.R x0, J.R x1, J.I x2, J.I x3, J.R x4, J.I x5] [J.R s1, J.R s0] h Q ↔ 0 < d ∧ J.WP (d - 1) 364 0 [J.R s0, J.R s1] [] h (J.af J.WP d 362 54 57 [J.R x0, J.R x1, J.I x2, J.I x3, J.R x4, J.I x5] [] Q) := by
  exact J.r_virt (k2 := 364) (m := 2) i362_54 rfl 46 hq (by decide +kernel) (by decide) rfl (Nat.le_of_ble_eq_true rfl)
theorem b362_54_c47 (d : Nat) (h : J.H) (Q : J.O → J.H → Prop) (x0 x1 x2 x3 x4 x5 s0 s1 : Int) (hq : J.cl h s0 = 47) : J.WP d 362 54 [J.R x0, J.R x1, J.I x2, J.I x3, J.R x4, J.I x5] [J.R s1, J.R s0] h Q ↔ 0 < d ∧ J.WP (d - 1) 364 0 [J.R s0, J.R s1] [] h (J.af J.WP d 362 54 57 [J.R x0, J.R x1, J.I x2, J.I x3, J.R x4, J.I x5] [] Q) := by
  exact J.r_virt (k2 := 364) (m := 2) i362_54 rfl 47 hq (by decide +kernel) (by decide) rfl (Nat.le_of_ble_eq_true rfl)
theorem b362_54_c48 (d : Nat) (h : J.H) (Q : J.O → J.H → Prop) (x0 x1 x2 x3 x4 x5 s0 s1 : Int) (hq : J.cl h s0 = 48) : J.WP d 362 54 [J.R x0, J.R x1, J.I x2, J.I x3, J.R x4, J.I x5] [J.R s1, J.R s0] h Q ↔ 0 < d ∧ J.WP (d - 1) 364 0 [J.R s0, J.R s1] [] h (J.af J.WP d 362 54 57 [J.R x0, J.R x1, J.I x2, J.I x3, J.R x4, J.I x5] [] Q) := by
  exact J.r_virt (k2 := 364) (m := 2) i362_54 rfl 48 hq (by decide +kernel) (by decide) rfl (Nat.le_of_ble_eq_true rfl)
theorem b362_54_c49 (d : Nat) (h : J.H) (Q : J.O → J.H → Prop) (x0 x1 x2 x3 x4 x5 s0 s1 : Int) (hq : J.cl h s0 = 49) : J.WP d 362 54 [J.R x0, J.R x1, J.I x2, J.I x3, J.R x4, J.I x5] [J.R s1, J.R s0] h Q ↔ 0 < d ∧ J.WP (d - 1) 364 0 [J.R s0, J.R s1] [] h (J.af J.WP d 362 54 57 [J.R x0, J.R x1, J.I x2, J.I x3, J.R x4, J.I x5] [] Q) := by
  exact J.r_virt (k2 := 364) (m := 2) i362_54 rfl 49 hq (by decide +kernel) (by decide) rfl (Nat.le_of_ble_eq_true rfl)
theorem b362_54_c50 (d : Nat) (h : J.H) (Q : J.O → J.H → Prop) (x0 x1 x2 x3 x4 x5 s0 s1 : Int) (hq : J.cl h s0 = 50) : J.WP d 362 54 [J.R x0, J.R x1, J.I x2, J.I x3, J.R x4, J.I x5] [J.R s1, J.R s0] h Q ↔ 0 < d ∧ J.WP (d - 1) 364 0 [J.R s0, J.R s1] [] h (J.af J.WP d 362 54 57 [J.R x0, J.R x1, J.I x2, J.I x3, J.R x4, J.I x5] [] Q) := by
  exact J.r_virt (k2 := 364) (m := 2) i362_54 rfl 50 hq (by decide +kernel) (by decide) rfl (Nat.le_of_ble_eq_true rfl)
theorem b362_54_c51 (d : Nat) (h : J.H) (Q : J.O → J.H → Prop) (x0 x1 x2 x3 x4 x5 s0 s1 : Int) (hq : J.cl h s0 = 51) : J.WP d 362 54 [J.R x0, J.R x1, J.I x2, J.I x3, J.R x4, J.I x5] [J.R s1, J.R s0] h Q ↔ 0 < d ∧ J.WP (d - 1) 364 0 [J.R s0, J.R s1] [] h (J.af J.WP d 362 54 57 [J.R x0, J.R x1, J.I x2, J.I x3, J.R x4, J.I x5] [] Q) := by
  exact J.r_virt (k2 := 364) (m := 2) i362_54 rfl 51 hq (by decide +kernel) (by decide) rfl (Nat.le_of_ble_eq_true rfl)
theorem b362_54_c52 (d : Nat) (h : J.H) (Q : J.O → J.H → Prop) (x0 x1 x2 x3 x4 x5 s0 s1 : Int) (hq : J.cl h s0 = 52) : J.WP d 362 54 [J.R x0, J.R x1, J.I x2, J.I x3, J.R x4, J.I x5] [J.R s1, J.R s0] h Q ↔ 0 < d ∧ J.WP (d - 1) 364 0 [J.R s0, J.R s1] [] h (J.af J.WP d 362 54 57 [J.R x0, J.R x1, J.I x2, J.I x3, J.R x4, J.I x5] [] Q) := by
  exact J.r_virt (k2 := 364) (m := 2) i362_54 rfl 52 hq (by decide +kernel) (by decide) rfl (Nat.le_of_ble_eq_true rfl)
theorem b362_54_c53 (d : Nat) (h : J.H) (Q : J.O → J.H → Prop) (x0 x1 x2 x3 x4 x5 s0 s1 : Int) (hq : J.cl h s0 = 53) : J.WP d 362 54 [J.R x0, J.R x1, J.I x2, J.I x3, J.R x4, J.I x5] [J.R s1, J.R s0] h Q ↔ 0 < d ∧ J.WP (d - 1) 364 0 [J.R s0, J.R s1] [] h (J.af J.WP d 362 54 57 [J.R x0, J.R x1, J.I x2, J.I x3, J.R x4, J.I x5] [] Q) := by
  exact J.r_virt (k2 := 364) (m := 2) i362_54 rfl 53 hq (by decide +kernel) (by decide) rfl (Nat.le_of_ble_eq_true rfl)
theorem b362_54_c54 (d : Nat) (h : J.H) (Q : J.O → J.H → Prop) (x0 x1 x2 x3 x4 x5 s0 s1 : Int) (hq : J.cl h s0 = 54) : J.WP d 362 54 [J.R x0, J.R x1, J.I x2, J.I x3, J.R x4, J.I x5] [J.R s1, J.R s0] h Q ↔ 0 < d ∧ J.WP (d - 1) 364 0 [J.R s0, J.R s1] [] h (J.af J.WP d 362 54 57 [J.R x0, J.R x1, J.I x2, J.I x3, J.R x4, J.I x5] [] Q) := by
  exact J.r_virt (k2 := 364) (m := 2) i362_54 rfl 54 hq (by decide +kernel) (by decide) rfl (Nat.le_of_ble_eq_true rfl)
theorem b362_54_c55 (d : Nat) (h : J.H) (Q : J.O → J.H → Prop) (x0 x1 x2 x3 x4 x5 s0 s1 : Int) (hq : J.cl h s0 = 55) : J.WP d 362 54 [J.R x0, J.R x1, J.I x2, J.I x3, J.R x4, J.I x5] [J.R s1, J.R s0] h Q ↔ 0 < d ∧ J.WP (d - 1) 364 0 [J.R s0, J.R s1] [] h (J.af J.WP d 362 54 57 [J.R x0, J.R x1, J.I x2, J.I x3, J.R x4, J.I x5] [] Q) := by
  exact J.r_virt (k2 := 364) (m := 2) i362_54 rfl 55 hq (by decide +kernel) (by decide) rfl (Nat.le_of_ble_eq_true rfl)
theorem b362_54_c56 (d : Nat) (h : J.H) (Q : J.O → J.H → Prop) (x0 x1 x2 x3 x4 x5 s0 s1 : Int) (hq : J.cl h s0 = 56) : J.WP d 362 54 [J.R x0, J.R x1, J.I x2, J.I x3, J.R x4, J.I x5] [J.R s1, J.R s0] h Q ↔ 0 < d ∧ J.WP (d - 1) 364 0 [J.R s0, J.R s1] [] h (J.af J.WP d 362 54 57 [J.R x0, J.R x1, J.I x2, J.I x3, J.R x4, J.I x5] [] Q) := by
  exact J.r_virt (k2 := 364) (m := 2) i362_54 rfl 56 hq (by decide +kernel) (by decide) rfl (Nat.le_of_ble_eq_true rfl)
theorem b362_54_c57 (d : Nat) (h : J.H) (Q : J.O → J.H → Prop) (x0 x1 x2 x3 x4 x5 s0 s1 : Int) (hq : J.cl h s0 = 57) : J.WP d 362 54 [J.R x0, J.R x1, J.I x2, J.I x3, J.R x4, J.I x5] [J.R s1, J.R s0] h Q ↔ 0 < d ∧ J.WP (d - 1) 364 0 [J.R s0, J.R s1] [] h (J.af J.WP d 362 54 57 [J.R x0, J.R x1, J.I x2, J.I x3, J.R x4, J.I x5] [] Q) := by
  exact J.r_virt (k2 := 364) (m := 2) i362_54 rfl 57 hq (by decide +kernel) (by decide) rfl (Nat.le_of_ble_eq_true rfl)
theorem b362_54_c58 (d : Nat) (h : J.H) (Q : J.O → J.H → Prop) (x0 x1 x2 x3 x4 x5 s0 s1 : Int) (hq : J.cl h s0 = 58) : J.WP d 362 54 [J.R x0, J.R x1, J.I x2, J.I x3, J.R x4, J.I x5] [J.R s1, J.R s0] h Q ↔ 0 < d ∧ J.WP (d - 1) 364 0 [J.R s0, J.R s1] [] h (J.af J.WP d 362 54 57 [J.R x0, J.R x1, J.I x2, J.I x3, J.R x4, J.I x5] [] Q) := by
  exact J.r_virt (k2 := 364) (m := 2) i362_54 rfl 58 hq (by decide +kernel) (by decide) rfl (Nat.le_of_ble_eq_true rfl)
theorem b362_54_c59 (d : Nat) (h : J.H) (Q : J.O → J.H → Prop) (x0 x1 x2 x3 x4 x5 s0 s1 : Int) (hq : J.cl h s0 = 59) : J.WP d 362 54 [J.R x0, J.R x1, J.I x2, J.I x3, J.R x4, J.I x5] [J.R s1, J.R s0] h Q ↔ 0 < d ∧ J.WP (d - 1) 364 0 [J.R s0, J.R s1] [] h (J.af J.WP d 362 54 57 [J.R x0, J.R x1, J.I x2, J.I x3, J.R x4, J.I x5] [] Q) := by
  exact J.r_virt (k2 := 364) (m := 2) i362_54 rfl 59 hq (by decide +kernel) (by decide) rfl (Nat.le_of_ble_eq_true rfl)
theorem b362_54_c60 (d : Nat) (h : J.H) (Q : J.O → J.H → Prop) (x0 x1 x2 x3 x4 x5 s0 s1 : Int) (hq : J.cl h s0 = 60) : J.WP d 362 54 [J.R x0, J.R x1, J.I x2, J.I x3, J.R x4, J.I x5] [J.R s1, J.R s0] h Q ↔ 0 < d ∧ J.WP (d - 1) 364 0 [J.R s0, J.R s1] [] h (J.af J.WP d 362 54 57 [J.R x0, J.R x1, J.I x2, J.I x3, J.R x4, J.I x5] [] Q) := by
  exact J.r_virt (k2 := 364) (m := 2) i362_54 rfl 60 hq (by decide +kernel) (by decide) rfl (Nat.le_of_ble_eq_true rfl)
theorem b362_54_c61 (d : Nat) (h : J.H) (Q : J.O → J.H → Prop) (x0 x1 x2 x3 x4 x5 s0 s1 : Int) (hq : J.cl h s0 = 61) : J.WP d 362 54 [J.R x0, J.R x1, J.I x2, J.I x3, J.R x4, J.I x5] [J.R s1, J.R s0] h Q ↔ 0 < d ∧ J.WP (d - 1) 364 0 [J.R s0, J.R s1] [] h (J.af J.WP d 362 54 57 [J.R x0, J.R x1, J.I x2, J.I x3, J.R x4, J.I x5] [] Q) := by
  exact J.r_virt (k2 := 364) (m := 2) i362_54 rfl 61 hq (by decide +kernel) (by decide) rfl (Nat.le_of_ble_eq_true rfl)
theorem b362_54_c62 (d : Nat) (h : J.H) (Q : J.O → J.H → Prop) (x0 x1 x2 x3 x4 x5 s0 s1 : Int) (hq : J.cl h s0 = 62) : J.WP d 362 54 [J.R x0, J.R x1, J.I x2, J.I x3, J.R x4, J.I x5] [J.R s1, J.R s0] h Q ↔ 0 < d ∧ J.WP (d - 1) 364 0 [J.R s0, J.R s1] [] h (J.af J.WP d 362 54 57 [J.R x0, J.R x1, J.I x2, J.I x3, J.R x4, J.I x5] [] Q) := by
  exact J.r_virt (k2 := 364) (m := 2) i362_54 rfl 62 hq (by decide +kernel) (by decide) rfl (Nat.le_of_ble_eq_true rfl)
theorem b362_54_c63 (d : Nat) (h : J.H) (Q : J.O → J.H → Prop) (x0 x1 x2 x3 x4 x5 s0 s1 : Int) (hq : J.cl h s0 = 63) : J.WP d 362 54 [J.R x0, J.R x1, J.I x2, J.I x3, J.R x4, J.I x5] [J.R s1, J.R s0] h Q ↔ 0 < d ∧ J.WP (d - 1) 364 0 [J.R s0, J.R s1] [] h (J.af J.WP d 362 54 57 [J.R x0, J.R x1, J.I x2, J.I x3, J.R x4, J.I x5] [] Q) := by
  exact J.r_virt (k2 := 364) (m := 2) i362_54 rfl 63 hq (by decide +kernel) (by decide) rfl (Nat.le_of_ble_eq_true rfl)
theorem b362_54_c64 (d : Nat) (h : J.H) (Q : J.O → J.H → Prop) (x0 x1 x2 x3 x4 x5 s0 s1 : Int) (hq : J.cl h s0 = 64) : J.WP d 362 54 [J.R x0, J.R x1, J.I x2, J.I x3, J.R x4, J.I x5] [J.R s1, J.R s0] h Q ↔ 0 < d ∧ J.WP (d - 1) 364 0 [J.R s0, J.R s1] [] h (J.af J.WP d 362 54 57 [J.R x0, J.R x1, J.I x2, J.I x3, J.R x4, J.I x5] [] Q) := by
  exact J.r_virt (k2 := 364) (m := 2) i362_54 rfl 64 hq (by decide +kernel) (by decide) rfl (Nat.le_of_ble_eq_true rfl)
theorem b362_54_c65 (d : Nat) (h : J.H) (Q : J.O → J.H → Prop) (x0 x1 x2 x3 x4 x5 s0 s1 : Int) (hq : J.cl h s0 = 65) : J.WP d 362 54 [J.R x0, J.R x1, J.I x2, J.I x3, J.R x4, J.I x5] [J.R s1, J.R s0] h Q ↔ 0 < d ∧ J.WP (d - 1) 364 0 [J.R s0, J.R s1] [] h (J.af J.WP d 362 54 57 [J.R x0, J.R x1, J.I x2, J.I x3, J.R x4, J.I x5] [] Q) := by
  exact J.r_virt (k2 := 364) (m := 2) i362_54 rfl 65 hq (by decide +kernel) (by decide) rfl (Nat.le_of_ble_eq_true rfl)
theorem b362_54_c66 (d : Nat) (h : J.H) (Q : J.O → J.H → Prop) (x0 x1 x2 x3 x4 x5 s0 s1 : Int) (hq : J.cl h s0 = 66) : J.WP d 362 54 [J.R x0, J.R x1, J.I x2, J.I x3, J.R x4, J.I x5] [J.R s1, J.R s0] h Q ↔ 0 < d ∧ J.WP (d - 1) 364 0 [J.R s0, J.R s1] [] h (J.af J.WP d 362 54 57 [J.R x0, J.R x1, J.I x2, J.I x3, J.R x4, J.I x5] [] Q) := by
  exact J.r_virt (k2 := 364) (m := 2) i362_54 rfl 66 hq (by decide +kernel) (by decide) rfl (Nat.le_of_ble_eq_true rfl)
theorem b362_54_c67 (d : Nat) (h : J.H) (Q : J.O → J.H → Prop) (x0 x1 x2 x3 x4 x5 s0 s1 : Int) (hq : J.cl h s0 = 67) : J.WP d 362 54 [J.R x0, J.R x1, J.I x2, J.I x3, J.R x4, J.I x5] [J.R s1, J.R s0] h Q ↔ 0 < d ∧ J.WP (d - 1) 364 0 [J.R s0, J.R s1] [] h (J.af J.WP d 362 54 57 [J.R x0, J.R x1, J.I x2, J.I x3, J.R x4, J.I x5] [] Q) := by
  exact J.r_virt (k2 := 364) (m := 2) i362_54 rfl 67 hq (by decide +kernel) (by decide) rfl (Nat.le_of_ble_eq_true rfl)
theorem b362_54_c68 (d : Nat) (h : J.H) (Q : J.O → J.H → Prop) (x0 x1 x2 x3 x4 x5 s0 s1 : Int) (hq : J.cl h s0 = 68) : J.WP d 362 54 [J.R x0, J.R x1, J.I x2, J.I x3, J.R x4, J.I x5] [J.R s1, J.R s0] h Q ↔ 0 < d ∧ J.WP (d - 1) 364 0 [J.R s0, J.R s1] [] h (J.af J.WP d 362 54 57 [J.R x0, J.R x1, J.I x2, J.I x3, J.R x4, J.I x5] [] Q) := by
  exact J.r_virt (k2 := 364) (m := 2) i362_54 rfl 68 hq (by decide +kernel) (by decide) rfl (Nat.le_of_ble_eq_true rfl)
theorem b362_54_c69 (d : Nat) (h : J.H) (Q : J.O → J.H → Prop) (x0 x1 x2 x3 x4 x5 s0 s1 : Int) (hq : J.cl h s0 = 69) : J.WP d 362 54 [J.R x0, J.R x1, J.I x2, J.I x3, J.R x4, J.I x5] [J.R s1, J.R s0] h Q ↔ 0 < d ∧ J.WP (d - 1) 364 0 [J.R s0, J.R s1] [] h (J.af J.WP d 362 54 57 [J.R x0, J.R x1, J.I x2, J.I x3, J.R x4, J.I x5] [] Q) := by
  exact J.r_virt (k2 := 364) (m := 2) i362_54 rfl 69 hq (by decide +kernel) (by decide) rfl (Nat.le_of_ble_eq_true rfl)
theorem b362_54_c70 (d : Nat) (h : J.H) (Q : J.O → J.H → Prop) (x0 x1 x2 x3 x4 x5 s0 s1 : Int) (hq : J.cl h s0 = 70) : J.WP d 362 54 [J.R x0, J.R x1, J.I x2, J.I x3, J.R x4, J.I x5] [J.R s1, J.R s0] h Q ↔ 0 < d ∧ J.WP (d - 1) 364 0 [J.R s0, J.R s1] [] h (J.af J.WP d 362 54 57 [J.R x0, J.R x1, J.I x2, J.I x3, J.R x4, J.I x5] [] Q) := by
  exact J.r_virt (k2 := 364) (m := 2) i362_54 rfl 70 hq (by decide +kernel) (by decide) rfl (Nat.le_of_ble_eq_true rfl)
theorem b362_54_c71 (d : Nat) (h : J.H) (Q : J.O → J.H → Prop) (x0 x1 x2 x3 x4 x5 s0 s1 : Int) (hq : J.cl h s0 = 71) : J.WP d 362 54 [J.R x0, J.R x1, J.I x2, J.I x3, J.R x4, J.I x5] [J.R s1, J.R s0] h Q ↔ 0 < d ∧ J.WP (d - 1) 364 0 [J.R s0, J.R s1] [] h (J.af J.WP d 362 54 57 [J.R x0, J.R x1, J.I x2, J.I x3, J.R x4, J.I x5] [] Q) := by
  exact J.r_virt (k2 := 364) (m := 2) i362_54 rfl 71 hq (by decide +kernel) (by decide) rfl (Nat.le_of_ble_eq_true rfl)
theorem b362_54_c72 (d : Nat) (h : J.H) (Q : J.O → J.H → Prop) (x0 x1 x2 x3 x4 x5 s0 s1 : Int) (hq : J.cl h s0 = 72) : J.WP d 362 54 [J.R x0, J.R x1, J.I x2, J.I x3, J.R x4, J.I x5] [J.R s1, J.R s0] h Q ↔ 0 < d ∧ J.WP (d - 1) 364 0 [J.R s0, J.R s1] [] h (J.af J.WP d 362 54 57 [J.R x0, J.R x1, J.I x2, J.I x3, J.R x4, J.I x5] [] Q) := by
  exact J.r_virt (k2 := 364) (m := 2) i362_54 rfl 72 hq (by decide +kernel) (by decide) rfl (Nat.le_of_ble_eq_true rfl)
theorem b362_54_c73 (d : Nat) (h : J.H) (Q : J.O → J.H → Prop) (x0 x1 x2 x3 x4 x5 s0 s1 : Int) (hq : J.cl h s0 = 73) : J.WP d 362 54 [J.R x0, J.R x1, J.I x2, J.I x3, J.R x4, J.I x5] [J.R s1, J.R s0] h Q ↔ 0 < d ∧ J.WP (d - 1) 364 0 [J.R s0, J.R s1] [] h (J.af J.WP d 362 54 57 [J.R x0, J.R x1, J.I x2, J.I x3, J.R x4, J.I x5] [] Q) := by
  exact J.r_virt (k2 := 364) (m := 2) i362_54 rfl 73 hq (by decide +kernel) (by decide) rfl (Nat.le_of_ble_eq_true rfl)
theorem b362_54_c74 (d : Nat) (h : J.H) (Q : J.O → J.H → Prop) (x0 x1 x2 x3 x4 x5 s0 s1 : Int) (hq : J.cl h s0 = 74) : J.WP d 362 54 [J.R x0, J.R x1, J.I x2, J.I x3, J.R x4, J.I x5] [J.R s1, J.R s0] h Q ↔ 0 < d ∧ J.WP (d - 1) 364 0 [J.R s0, J.R s1] [] h (J.af J.WP d 362 54 57 [J.R x0, J.R x1, J.I x2, J.I x3, J.R x4, J.I x5] [] Q) := by
  exact J.r_virt (k2 := 364) (m := 2) i362_54 rfl 74 hq (by decide +kernel) (by decide) rfl (Nat.le_of_ble_eq_true rfl)
theorem b362_54_c75 (d : Nat) (h : J.H) (Q : J.O → J.H → Prop) (x0 x1 x2 x3 x4 x5 s0 s1 : Int) (hq : J.cl h s0 = 75) : J.WP d 362 54 [J.R x0, J.R x1, J.I x2, J.I x3, J.R x4, J.I x5] [J.R s1, J.R s0] h Q ↔ 0 < d ∧ J.WP (d - 1) 364 0 [J.R s0, J.R s1] [] h (J.af J.WP d 362 54 57 [J.R x0, J.R x1, J.I x2, J.I x3, J.R x4, J.I x5] [] Q) := by
  exact J.r_virt (k2 := 364) (m := 2) i362_54 rfl 75 hq (by decide +kernel) (by decide) rfl (Nat.le_of_ble_eq_true rfl)
theorem b362_54_c76 (d : Nat) (h : J.H) (Q : J.O → J.H → Prop) (x0 x1 x2 x3 x4 x5 s0 s1 : Int) (hq : J.cl h s0 = 76) : J.WP d 362 54 [J.R x0, J.R x1, J.I x2, J.I x3, J.R x4, J.I x5] [J.R s1, J.R s0] h Q ↔ 0 < d ∧ J.WP (d - 1) 364 0 [J.R s0, J.R s1] [] h (J.af J.WP d 362 54 57 [J.R x0, J.R x1, J.I x2, J.I x3, J.R x4, J.I x5] [] Q) := by
  exact J.r_virt (k2 := 364) (m := 2) i362_54 rfl 76 hq (by decide +kernel) (by decide) rfl (Nat.le_of_ble_eq_true rfl)
theorem b362_54_c77 (d : Nat) (h : J.H) (Q : J.O → J.H → Prop) (x0 x1 x2 x3 x4 x5 s0 s1 : Int) (hq : J.cl h s0 = 77) : J.WP d 362 54 [J.R x0, J.R x1, J.I x2, J.I x3, J.R x4, J.I x5] [J.R s1, J.R s0] h Q ↔ 0 < d ∧ J.WP (d - 1) 364 0 [J.R s0, J.R s1] [] h (J.af J.WP d 362 54 57 [J.R x0, J.R x1, J.I x2, J.I x3, J.R x4, J.I x5] [] Q) := by
  exact J.r_virt (k2 := 364) (m := 2) i362_54 rfl 77 hq (by decide +kernel) (by decide) rfl (Nat.le_of_ble_eq_true rfl)
theorem b362_54_c78 (d : Nat) (h : J.H) (Q : J.O → J.H → Prop) (x0 x1 x2 x3 x4 x5 s0 s1 : Int) (hq : J.cl h s0 = 78) : J.WP d 362 54 [J.R x0, J.R x1, J.I x2, J.I x3, J.R x4, J.I x5] [J.R s1, J.R s0] h Q ↔ 0 < d ∧ J.WP (d - 1) 364 0 [J.R s0, J.R s1] [] h (J.af J.WP d 362 54 57 [J.R x0, J.R x1, J.I x2, J.I x3, J.R x4, J.I x5] [] Q) := by
  exact J.r_virt (k2 := 364) (m := 2) i362_54 rfl 78 hq (by decide +kernel) (by decide) rfl (Nat.le_of_ble_eq_true rfl)
theorem b362_54_c79 (d : Nat) (h : J.H) (Q : J.O → J.H → Prop) (x0 x1 x2 x3 x4 x5 s0 s1 : Int) (hq : J.cl h s0 = 79) : J.WP d 362 54 [J.R x0, J.R x1, J.I x2, J.I x3, J.R x4, J.I x5] [J.R s1, J.R s0] h Q ↔ 0 < d ∧ J.WP (d - 1) 364 0 [J.R s0, J.R s1] [] h (J.af J.WP d 362 54 57 [J.R x0, J.R x1, J.I x2, J.I x3, J.R x4, J.I x5] [] Q) := by
  exact J.r_virt (k2 := 364) (m := 2) i362_54 rfl 79 hq (by decide +kernel) (by decide) rfl (Nat.le_of_ble_eq_true rfl)
theorem b362_54_c80 (d : Nat) (h : J.H) (Q : J.O → J.H → Prop) (x0 x1 x2 x3 x4 x5 s0 s1 : Int) (hq : J.cl h s0 = 80) : J.WP d 362 54 [J.R x0, J.R x1, J.I x2, J.I x3, J.R x4, J.I x5] [J.R s1, J.R s0] h Q ↔ 0 < d ∧ J.WP (d - 1) 364 0 [J.R s0, J.R s1] [] h (J.af J.WP d 362 54 57 [J.R x0, J.R x1, J.I x2, J.I x3, J.R x4, J.I x5] [] Q) := by
  exact J.r_virt (k2 := 364) (m := 2) i362_54 rfl 80 hq (by decide +kernel) (by decide) rfl (Nat.le_of_ble_eq_true rfl)
theorem b362_54_c81 (d : Nat) (h : J.H) (Q : J.O → J.H → Prop) (x0 x1 x2 x3 x4 x5 s0 s1 : Int) (hq : J.cl h s0 = 81) : J.WP d 362 54 [J.R x0, J.R x1, J.I x2, J.I x3, J.R x4, J.I x5] [J.R s1, J.R s0] h Q ↔ 0 < d ∧ J.WP (d - 1) 364 0 [J.R s0, J.R s1] [] h (J.af J.WP d 362 54 57 [J.R x0, J.R x1, J.I x2, J.I x3, J.R x4, J.I x5] [] Q) := by
  exact J.r_virt (k2 := 364) (m := 2) i362_54 rfl 81 hq (by decide +kernel) (by decide) rfl (Nat.le_of_ble_eq_true rfl)
theorem b362_54_c82 (d : Nat) (h : J.H) (Q : J.O → J.H → Prop) (x0 x1 x2 x3 x4 x5 s0 s1 : Int) (hq : J.cl h s0 = 82) : J.WP d 362 54 [J.R x0, J.R x1, J.I x2, J.I x3, J.R x4, J.I x5] [J.R s1, J.R s0] h Q ↔ 0 < d ∧ J.WP (d - 1) 364 0 [J.R s0, J.R s1] [] h (J.af J.WP d 362 54 57 [J.R x0, J.R x1, J.I x2, J.I x3, J.R x4, J.I x5] [] Q) := by
  exact J.r_virt (k2 := 364) (m := 2) i362_54 rfl 82 hq (by decide +kernel) (by decide) rfl (Nat.le_of_ble_eq_true rfl)
theorem b362_54_c83 (d : Nat) (h : J.H) (Q : J.O → J.H → Prop) (x0 x1 x2 x3 x4 x5 s0 s1 : Int) (hq : J.cl h s0 = 83) : J.WP d 362 54 [J.R x0, J.R x1, J.I x2, J.I x3, J.R x4, J.I x5] [J.R s1, J.R s0] h Q ↔ 0 < d ∧ J.WP (d - 1) 364 0 [J.R s0, J.R s1] [] h (J.af J.WP d 362 54 57 [J.R x0, J.R x1, J.I x2, J.I x3, J.R x4, J.I x5] [] Q) := by
  exact J.r_virt (k2 := 364) (m := 2) i362_54 rfl 83 hq (by decide +kernel) (by decide) rfl (Nat.le_of_ble_eq_true rfl)
theorem b362_54_c84 (d : Nat) (h : J.H) (Q : J.O → J.H → Prop) (x0 x1 x2 x3 x4 x5 s0 s1 : Int) (hq : J.cl h s0 = 84) : J.WP d 362 54 [J.R x0, J.R x1, J.I x2, J.I x3, J.R x4, J.I x5] [J.R s1, J.R s0] h Q ↔ 0 < d ∧ J.WP (d - 1) 364 0 [J.R s0, J.R s1] [] h (J.af J.WP d 362 54 57 [J.R x0, J.R x1, J.I x2, J.I x3, J.R x4, J.I x5] [] Q) := by
  exact J.r_virt (k2 := 364) (m := 2) i362_54 rfl 84 hq (by decide +kernel) (by decide) rfl (Nat.le_of_ble_eq_true rfl)
theorem b362_57 (d : Nat) (h : J.H) (Q : J.O → J.H → Prop) (x0 x1 x2 x3 x4 x5 s0 : Int) : J.WP d 362 57 [J.R x0, J.R x1, J.I x2, J.I x3, J.R x4, J.I x5] [J.I s0] h Q ↔ if s0 = 0 then (J.WP d 362 42 [J.R x0, J.R x1, J.I x2, J.I x3, J.R x4, J.I (J.w32 (x5 + 1))] [] h Q) else (Q (Sum.inl (some (J.I x5))) h) := by
  refine (J.r_ifeq i362_57).trans (J.ite2 ?_ ?_)
  · refine (J.r_iinc i362_63 rfl rfl).trans ?_
    refine (J.r_goto i362_66).trans ?_
    exact Iff.rfl
  · refine (J.r_iload i362_60 rfl).trans ?_
    exact J.r_iret i362_62 rfl
theorem b362_69 (d : Nat) (h : J.H) (Q : J.O → J.H → Prop) (x0 x1 x2 x3 x4 x5 : Int) : J.WP d 362 69 [J.R x0, J.R x1, J.I x2, J.I x3, J.R x4, J.I x5] [] h Q ↔ Q (Sum.inl (some (J.I (-1)))) h := by
  refine (J.r_iconst i362_69).trans ?_
  exact J.r_iret i362_70 rfl
/-! 363 java/lang/Enum.equals(Ljava/lang/Object;)Z -/
theorem i363_0 : J.cd 363 0 = some (.aload 0, 1, 0, 0, 0) := by decide +kernel
theorem i363_1 : J.cd 363 1 = some (.aload 1, 2, 0, 0, 0) := by decide +kernel
theorem i363_2 : J.cd 363 2 = some (.if_acmp .ne 7, 5, 9, 0, 0) := by decide +kernel
theorem i363_5 : J.cd 363 5 = some (.iconst 1, 6, 5, 0, 0) := by decide +kernel
theorem i363_6 : J.cd 363 6 = some (.goto 4, 9, 10, 0, 0) := by decide +kernel
theorem i363_9 : J.cd 363 9 = some (.iconst 0, 10, 9, 0, 0) := by decide +kernel
theorem i363_10 : J.cd 363 10 = some (.ireturn, 11, 0, 0, 3) := by decide +kernel
theorem b363_0 (d : Nat) (h : J.H) (Q : J.O → J.H → Prop) (x0 x1 : Int) : J.WP d 363 0 [J.R x0, J.R x1] [] h Q ↔ if x0 = x1 then (J.WP d 363 10 [J.R x0, J.R x1] [J.I 1] h Q) else (J.WP d 363 10 [J.R x0, J.R x1] [J.I 0] h Q) := by
  refine (J.r_aload i363_0 rfl).trans ?_
  refine (J.r_aload i363_1 rfl).trans ?_
  refine (J.r_acne i363_2).trans (J.ite2 ?_ ?_)
  · refine (J.r_iconst i363_5).trans ?_
    refine (J.r_goto i363_6).trans ?_
    exact Iff.rfl
  · refine (J.r_iconst i363_9).trans ?_
    exact Iff.rfl
theorem b363_10 (d : Nat) (h : J.H) (Q : J.O → J.H → Prop) (x0 x1 s0 : Int) : J.WP d 363 10 [J.R x0, J.R x1] [J.I s0] h Q ↔ (J.zo s0) ∧ Q (Sum.inl (some (J.I s0))) h := by
  exact J.r_iretZ i363_10 rfl
/-! 364 java/lang/Object.equals(Ljava/lang/Object;)Z -/
theorem i364_0 : J.cd 364 0 = some (.aload 0, 1, 0, 0, 0) := by decide +kernel
theorem i364_1 : J.cd 364 1 = some (.aload 1, 2, 0, 0, 0) := by decide +kernel
theorem i364_2 : J.cd 364 2 = some (.if_acmp .ne 7, 5, 9, 0, 0) := by decide +kernel
theorem i364_5 : J.cd 364 5 = some (.iconst 1, 6, 5, 0, 0) := by decide +kernel
theorem i364_6 : J.cd 364 6 = some (.goto 4, 9, 10, 0, 0) := by decide +kernel
theorem i364_9 : J.cd 364 9 = some (.iconst 0, 10, 9, 0, 0) := by decide +kernel
theorem i364_10 : J.cd 364 10 = some (.ireturn, 11, 0, 0, 3) := by decide +kernel
theorem b364_0 (d : Nat) (h : J.H) (Q : J.O → J.H → Prop) (x0 x1 : Int) : J.WP d 364 0 [J.R x0, J.R x1] [] h Q ↔ if x0 = x1 then (J.WP d 364 10 [J.R x0, J.R x1] [J.I 1] h Q) else (J.WP d 364 10 [J.R x0, J.R x1] [J.I 0] h Q) := by
  refine (J.r_aload i364_0 rfl).trans ?_
  refine (J.r_aload i364_1 rfl).trans ?_
  refine (J.r_acne i364_2).trans (J.ite2 ?_ ?_)
  · refine (J.r_iconst i364_5).trans ?_
    refine (J.r_goto i364_6).trans ?_
    exact Iff.rfl
  · refine (J.r_iconst i364_9).trans ?_
    exact Iff.rfl
theorem b364_10 (d : Nat) (h : J.H) (Q : J.O → J.H → Prop) (x0 x1 s0 : Int) : J.WP d 364 10 [J.R x0, J.R x1] [J.I s0] h Q ↔ (J.zo s0) ∧ Q (Sum.inl (some (J.I s0))) h := by
  exact J.r_iretZ i364_10 rfl
/-! 449 java/util/ArrayList.remove(I)Ljava/lang/Object; -/
theorem i449_0 : J.cd 449 0 = some (.iload 1, 1, 0, 0, 0) := by decide +kernel
theorem i449_1 : J.cd 449 1 = some (.aload 0, 2, 0, 0, 0) := by decide +kernel
theorem i449_2 : J.cd 449 2 = some (.getfield 48, 5, 20, 6, 0) := by decide +kernel
theorem i449_5 : J.cd 449 5 = some (.invokestatic 118, 8, 31, 2, 2) := by decide +kernel
theorem i449_8 : J.cd 449 8 = some (.pop, 9, 8, 0, 0) := by decide +kernel
theorem i449_9 : J.cd 449 9 = some (.aload 0, 10, 0, 0, 0) := by decide +kernel
theorem i449_10 : J.cd 449 10 = some (.getfield 9, 13, 19, 6, 2) := by decide +kernel
theorem i449_13 : J.cd 449 13 = some (.astore 2, 14, 0, 0, 0) := by decide +kernel
theorem i449_14 : J.cd 449 14 = some (.aload 2, 15, 0, 0, 0) := by decide +kernel
theorem i449_15 : J.cd 449 15 = some (.iload 1, 16, 0, 0, 0) := by decide +kernel
theorem i449_16 : J.cd 449 16 = some (.aaload, 17, 16, 0, 0) := by decide +kernel
theorem i449_17 : J.cd 449 17 = some (.astore 3, 18, 0, 0, 0) := by decide +kernel
theorem i449_18 : J.cd 449 18 = some (.aload 0, 19, 0, 0, 0) := by decide +kernel
theorem i449_19 : J.cd 449 19 = some (.aload 2, 20, 0, 0, 0) := by decide +kernel
theorem i449_20 : J.cd 449 20 = some (.iload 1, 21, 0, 0, 0) := by decide +kernel
theorem i449_21 : J.cd 449 21 = some (.invokevirtual 144, 24, 230, 2, 0) := by decide +kernel
theorem i449_24 : J.cd 449 24 = some (.aload 3, 25, 0, 0, 0) := by decide +kernel
theorem i449_25 : J.cd 449 25 = some (.areturn, 26, 25, 0, 0) := by decide +kernel
theorem b449_0 (d : Nat) (h : J.H) (Q : J.O → J.H → Prop) (x0 x1 : Int) : J.WP d 449 0 [J.R x0, J.I x1, J.U, J.U] [] h Q ↔ (J.sb (J.cl h x0) 6 = true) ∧ (0 < d ∧ J.WP (d - 1) 31 0 [J.I x1, J.I (J.gv h x0 20)] [] h (J.af J.WP d 449 5 8 [J.R x0, J.I x1, J.U, J.U] [] Q)) := by
  refine (J.r_iload i449_0 rfl).trans ?_
  refine (J.r_aload i449_1 rfl).trans ?_
  refine (J.r_getI i449_2).trans (and_congr_right fun q0 => ?_)
  exact J.r_stat i449_5 (by decide) (Nat.le_of_ble_eq_true rfl) rfl rfl (Nat.le_of_ble_eq_true rfl)
theorem b449_8 (d : Nat) (h : J.H) (Q : J.O → J.H → Prop) (x0 x1 s0 : Int) : J.WP d 449 8 [J.R x0, J.I x1, J.U, J.U] [J.I s0] h Q ↔ (J.sb (J.cl h x0) 6 = true) ∧ ((J.isA (J.cl h (J.gv h x0 19)) 2 = true ∧ J.rg x1 (J.ln h (J.gv h x0 19))) ∧ (J.cl h x0 = 6 ∧ 0 < d ∧ J.WP (d - 1) 450 0 [J.R x0, J.R (J.gv h x0 19), J.I x1, J.U] [] h (J.af J.WP d 449 21 24 [J.R x0, J.I x1, J.R (J.gv h x0 19), J.R (J.gv h (J.gv h x0 19) x1)] [] Q))) := by
  refine (J.r_popI i449_8).trans ?_
  refine (J.r_aload i449_9 rfl).trans ?_
  refine (J.r_getR i449_10).trans (and_congr_right fun q0 => ?_)
  refine (J.r_astore i449_13 (Nat.le_of_ble_eq_true rfl) rfl).trans ?_
  refine (J.r_aload i449_14 rfl).trans ?_
  refine (J.r_iload i449_15 rfl).trans ?_
  refine (J.r_aaload i449_16).trans (and_congr_right fun q1 => ?_)
  refine (J.r_astore i449_17 (Nat.le_of_ble_eq_true rfl) rfl).trans ?_
  refine (J.r_aload i449_18 rfl).trans ?_
  refine (J.r_aload i449_19 rfl).trans ?_
  refine (J.r_iload i449_20 rfl).trans ?_
  exact J.r_virt1 (k2 := 450) (m := 4) 6 i449_21 rfl (by decide +kernel) (by decide) rfl (Nat.le_of_ble_eq_true rfl)
theorem b449_24 (d : Nat) (h : J.H) (Q : J.O → J.H → Prop) (x0 x1 x2 x3 : Int) : J.WP d 449 24 [J.R x0, J.I x1, J.R x2, J.R x3] [] h Q ↔ Q (Sum.inl (some (J.R x3))) h := by
  refine (J.r_aload i449_24 rfl).trans ?_
  exact J.r_aret i449_25 rfl
/-! 450 java/util/ArrayList.fastRemove([Ljava/lang/Object;I)V -/
theorem i450_0 : J.cd 450 0 = some (.aload 0, 1, 0, 0, 0) := by decide +kernel
theorem i450_1 : J.cd 450 1 = some (.dup, 2, 1, 0, 0) := by decide +kernel
theorem i450_2 : J.cd 450 2 = some (.getfield 63, 5, 21, 87, 0) := by decide +kernel
theorem i450_5 : J.cd 450 5 = some (.iconst 1, 6, 5, 0, 0) := by decide +kernel
theorem i450_6 : J.cd 450 6 = some (.iadd, 7, 6, 0, 0) := by decide +kernel
theorem i450_7 : J.cd 450 7 = some (.putfield 63, 10, 21, 87, 0) := by decide +kernel
theorem i450_10 : J.cd 450 10 = some (.aload 0, 11, 0, 0, 0) := by decide +kernel
theorem i450_11 : J.cd 450 11 = some (.getfield 48, 14, 20, 6, 0) := by decide +kernel
theorem i450_14 : J.cd 450 14 = some (.iconst 1, 15, 14, 0, 0) := by decide +kernel
theorem i450_15 : J.cd 450 15 = some (.isub, 16, 15, 0, 0) := by decide +kernel
theorem i450_16 : J.cd 450 16 = some (.dup, 17, 16, 0, 0) := by decide +kernel
theorem i450_17 : J.cd 450 17 = some (.istore 3, 18, 0, 0, 0) := by decide +kernel
theorem i450_18 : J.cd 450 18 = some (.iload 2, 19, 0, 0, 0) := by decide +kernel
theorem i450_19 : J.cd 450 19 = some (.if_icmp .le 15, 22, 34, 0, 0) := by decide +kernel
theorem i450_22 : J.cd 450 22 = some (.aload 1, 23, 0, 0, 0) := by decide +kernel
theorem i450_23 : J.cd 450 23 = some (.iload 2, 24, 0, 0, 0) := by decide +kernel
theorem i450_24 : J.cd 450 24 = some (.iconst 1, 25, 24, 0, 0) := by decide +kernel
theorem i450_25 : J.cd 450 25 = some (.iadd, 26, 25, 0, 0) := by decide +kernel
theorem i450_26 : J.cd 450 26 = some (.aload 1, 27, 0, 0, 0) := by decide +kernel
theorem i450_27 : J.cd 450 27 = some (.iload 2, 28, 0, 0, 0) := by decide +kernel
theorem i450_28 : J.cd 450 28 = some (.iload 3, 29, 0, 0, 0) := by decide +kernel
theorem i450_29 : J.cd 450 29 = some (.iload 2, 30, 0, 0, 0) := by decide +kernel
theorem i450_30 : J.cd 450 30 = some (.isub, 31, 30, 0, 0) := by decide +kernel
theorem i450_31 : J.cd 450 31 = some (.invokestatic 112, 34, 2000, 5, 0) := by decide +kernel
theorem i450_34 : J.cd 450 34 = some (.aload 1, 35, 0, 0, 0) := by decide +kernel
theorem i450_35 : J.cd 450 35 = some (.aload 0, 36, 0, 0, 0) := by decide +kernel
theorem i450_36 : J.cd 450 36 = some (.iload 3, 37, 0, 0, 0) := by decide +kernel
theorem i450_37 : J.cd 450 37 = some (.dup_x1, 38, 37, 0, 0) := by decide +kernel
theorem i450_38 : J.cd 450 38 = some (.putfield 48, 41, 20, 6, 0) := by decide +kernel
theorem i450_41 : J.cd 450 41 = some (.aconst_null, 42, 41, 0, 0) := by decide +kernel
theorem i450_42 : J.cd 450 42 = some (.aastore, 43, 42, 0, 0) := by decide +kernel
theorem i450_43 : J.cd 450 43 = some (.return_, 44, 43, 0, 0) := by decide +kernel
theorem b450_0 (d : Nat) (h : J.H) (Q : J.O → J.H → Prop) (x0 x1 x2 : Int) : J.WP d 450 0 [J.R x0, J.R x1, J.I x2, J.U] [] h Q ↔ (J.sb (J.cl h x0) 87 = true) ∧ ((J.sb (J.cl h x0) 87 = true ∧ J.cl h x0 < 300) ∧ ((J.sb (J.cl h x0) 6 = true) ∧ (if (J.w32 ((J.gv (J.sv h x0 21 (J.w32 ((J.gv h x0 21) + 1))) x0 20) - 1)) ≤ x2 then (J.WP d 450 34 [J.R x0, J.R x1, J.I x2, J.I (J.w32 ((J.gv (J.sv h x0 21 (J.w32 ((J.gv h x0 21) + 1))) x0 20) - 1))] [] (J.sv h x0 21 (J.w32 ((J.gv h x0 21) + 1))) Q) else (((0 : Int) ≤ (J.w32 ((J.w32 ((J.gv (J.sv h x0 21 (J.w32 ((J.gv h x0 21) + 1))) x0 20) - 1)) - x2)) ∧ (0 : Int) ≤ (J.w32 (x2 + 1)) ∧ (0 : Int) ≤ x2 ∧ (J.w32 (x2 + 1)) + (J.w32 ((J.w32 ((J.gv (J.sv h x0 21 (J.w32 ((J.gv h x0 21) + 1))) x0 20) - 1)) - x2)) ≤ J.ln h x1 ∧ x2 + (J.w32 ((J.w32 ((J.gv (J.sv h x0 21 (J.w32 ((J.gv h x0 21) + 1))) x0 20) - 1)) - x2)) ≤ J.ln h x1 ∧ J.cl h x1 < 300 ∧ ((J.isA (J.cl h x1) 3 = true ∧ J.cl h x1 = 204 ∧ J.cl h x1 ≠ 203) ∨ (J.isA (J.cl h x1) 2 = true ∧ J.cl h x1 = 214 ∧ J.vld (J.sv h x0 21 (J.w32 ((J.gv h x0 21) + 1))) x1 (J.w32 (x2 + 1)) (J.w32 ((J.w32 ((J.gv (J.sv h x0 21 (J.w32 ((J.gv h x0 21) + 1))) x0 20) - 1)) - x2)) = true))) ∧ (J.WP d 450 34 [J.R x0, J.R x1, J.I x2, J.I (J.w32 ((J.gv (J.sv h x0 21 (J.w32 ((J.gv h x0 21) + 1))) x0 20) - 1))] [] (J.cpy (J.sv h x0 21 (J.w32 ((J.gv h x0 21) + 1))) x1 (J.w32 (x2 + 1)) x1 x2 (J.w32 ((J.w32 ((J.gv (J.sv h x0 21 (J.w32 ((J.gv h x0 21) + 1))) x0 20) - 1)) - x2))) Q))))) := by
  refine (J.r_aload i450_0 rfl).trans ?_
  refine (J.r_dupR i450_1).trans ?_
  refine (J.r_getI i450_2).trans (and_congr_right fun q0 => ?_)
  refine (J.r_iconst i450_5).trans ?_
  refine (J.r_iadd i450_6).trans ?_
  refine (J.r_putI i450_7).trans (and_congr_right fun q1 => ?_)
  refine (J.r_aload i450_10 rfl).trans ?_
  refine (J.r_getI i450_11).trans (and_congr_right fun q2 => ?_)
  refine (J.r_iconst i450_14).trans ?_
  refine (J.r_isub i450_15).trans ?_
  refine (J.r_dupI i450_16).trans ?_
  refine (J.r_istore i450_17 (Nat.le_of_ble_eq_true rfl) rfl).trans ?_
  refine (J.r_iload i450_18 rfl).trans ?_
  refine (J.r_icle i450_19).trans (J.ite2 ?_ ?_)
  · exact Iff.rfl
  · refine (J.r_aload i450_22 rfl).trans ?_
    refine (J.r_iload i450_23 rfl).trans ?_
    refine (J.r_iconst i450_24).trans ?_
    refine (J.r_iadd i450_25).trans ?_
    refine (J.r_aload i450_26 rfl).trans ?_
    refine (J.r_iload i450_27 rfl).trans ?_
    refine (J.r_iload i450_28 rfl).trans ?_
    refine (J.r_iload i450_29 rfl).trans ?_
    refine (J.r_isub i450_30).trans ?_
    refine (J.r_acopy i450_31).trans (and_congr_right fun q3 => ?_)
    exact Iff.rfl
theorem b450_34 (d : Nat) (h : J.H) (Q : J.O → J.H → Prop) (x0 x1 x2 x3 : Int) : J.WP d 450 34 [J.R x0, J.R x1, J.I x2, J.I x3] [] h Q ↔ (J.sb (J.cl h x0) 6 = true ∧ J.cl h x0 < 300) ∧ ((J.cl h x1 < 300 ∧ J.isA (J.cl h x1) 2 = true ∧ J.rg x3 (J.ln h x1) ∧ J.aok h x1 0) ∧ (Q (Sum.inl none) (J.sv (J.sv h x0 20 x3) x1 x3 0))) := by
  refine (J.r_aload i450_34 rfl).trans ?_
  refine (J.r_aload i450_35 rfl).trans ?_
  refine (J.r_iload i450_36 rfl).trans ?_
  refine (J.r_dupx1IR i450_37).trans ?_
  refine (J.r_putI i450_38).trans (and_congr_right fun q0 => ?_)
  refine (J.r_null i450_41).trans ?_
  refine (J.r_aastore i450_42).trans (and_congr_right fun q1 => ?_)
  exact J.r_ret i450_43 rfl
end
section
/-! contracts: java.util.ArrayList -/
set_option maxRecDepth 100000
theorem J.sb6 : J.sb 6 6 = true := by decide
theorem J.sb6a : J.sb 6 87 = true := by decide
theorem J.ik6 : J.ik 6 = true := by decide
theorem J.ia214 : J.ia 214 = true := by decide
theorem J.ia311 : J.ia 311 = true := by decide
theorem J.isA214 : J.isA 214 2 = true := by decide
theorem J.isA311 : J.isA 311 2 = true := by decide
/-- a list's places: the array's own, those behind the size too; what may lie there -/
def J.AL (h : J.H) (a : Int) (l : List Int) : Prop := J.cl h a = 6 ∧ J.gv h a 20 = l.length ∧ (J.cl h (J.gv h a 19) = 214 ∨ (J.gv h a 19 = J.gv h (-1) 1 ∧ J.cl h (J.gv h a 19) = 311 ∧ J.ln h (J.gv h a 19) = 0)) ∧ (l.length : Int) ≤ J.ln h (J.gv h a 19) ∧ J.ln h (J.gv h a 19) < 100000 ∧ (∀ j : Nat, j < l.length → J.gv h (J.gv h a 19) j = l.getD j 0) ∧ ∀ j : Int, 0 ≤ j → j < J.ln h (J.gv h a 19) → J.gv h (J.gv h a 19) j = 0 ∨ J.okK (J.cl h (J.gv h (J.gv h a 19) j)) = true
section
variable {d : Nat} {h : J.H} {Q : J.O → J.H → Prop} {a : Int} {l : List Int}
theorem J.al_size (hl : J.AL h a l) (hQ : Q (Sum.inl (some (J.I l.length))) h) : J.WP d 34 0 [J.R a] [] h Q := by
  rw [b34_0, hl.1, hl.2.1]
  exact ⟨J.sb6, hQ⟩
theorem J.al_get {j : Int} (hl : J.AL h a l) (h1 : 0 ≤ j) (h2 : j < l.length) (hd : 2 ≤ d) (hQ : Q (Sum.inl (some (J.R (l.getD j.toNat 0)))) h) : J.WP d 30 0 [J.R a, J.I j] [] h Q := by
  obtain ⟨c1, c2, c3, c4, c5, c6, c7⟩ := hl
  have e1 : J.isA (J.cl h (J.gv h a 19)) 2 = true := by
    rcases c3 with z | ⟨-, z, -⟩ <;> rw [z]
    · exact J.isA214
    · exact J.isA311
  have e2 : J.gv h (J.gv h a 19) j = l.getD j.toNat 0 := by
    have := c6 j.toNat (by omega)
    rwa [Int.toNat_of_nonneg h1] at this
  have e3 : ¬ j < 0 := by omega
  simp only [b30_0, b31_0, b32_0, b31_6, b30_8, b33_0, b30_14, J.af_s, c1, c2, J.sb6, e1, e2, e3, h2, if_true, if_false, true_and, J.rg]
  exact ⟨by omega, by omega, by omega, ⟨h1, by omega⟩, hQ⟩
theorem J.cpy0 (h : J.H) (a i b j : Int) : J.cpy h a i b j 0 = h := by
  refine J.ext (fun _ => rfl) (fun _ => rfl) (fun x y => ?_) rfl rfl
  rw [J.gv_cpy, if_neg (by omega)]
theorem J.math_max {x y : Int} (hQ : Q (Sum.inl (some (J.I (if x < y then y else x)))) h) : J.WP d 22 0 [J.I x, J.I y] [] h Q := by
  rw [b22_0]
  by_cases e : x < y
  · rw [if_pos e] at hQ ⊢; rw [b22_10]; exact hQ
  · rw [if_neg e] at hQ ⊢; rw [b22_10]; exact hQ
theorem J.math_min {x y : Int} (hQ : Q (Sum.inl (some (J.I (if x ≤ y then x else y)))) h) : J.WP d 26 0 [J.I x, J.I y] [] h Q := by
  rw [b26_0]
  by_cases e : x ≤ y
  · rw [if_pos e] at hQ ⊢; rw [b26_10]; exact hQ
  · rw [if_neg e] at hQ ⊢; rw [b26_10]; exact hQ
theorem J.newLength {o m p : Int} (h0 : 0 ≤ o) (h1 : 0 < m) (h2 : 0 ≤ p) (h3 : o < 1000000) (h4 : m < 1000000) (h5 : p < 1000000) (hd : 1 ≤ d) (hQ : Q (Sum.inl (some (J.I (o + if m < p then p else m)))) h) : J.WP d 21 0 [J.I o, J.I m, J.I p, J.U] [] h Q := by
  rw [b21_0]
  refine ⟨by omega, J.math_max ?_⟩
  rw [J.af_s, b21_6]
  generalize hz : (if m < p then p else m) = z at hQ ⊢
  have hz2 : 0 < z ∧ z < 1000000 := by
    by_cases e : m < p
    · rw [if_pos e] at hz; omega
    · rw [if_neg e] at hz; omega
  rw [J.w32_id (by omega) (by omega), if_pos (by omega), if_pos (by omega)]
  exact hQ
theorem J.copyOf {e n : Int} (hc : J.cl h e = 214 ∨ J.cl h e = 311) (h0 : 0 ≤ J.ln h e) (h1 : J.ln h e ≤ n) (he : e ≠ J.nx h) (hv : J.vld h e 0 (J.ln h e) = true) (hus : J.us h + 7 + n ≤ J.UM) (hd : 2 ≤ d) (hQ : Q (Sum.inl (some (J.R (J.nx h)))) (J.cpy (J.nw h 214 n (7 + n)) e 0 (J.nx h) 0 (J.ln h e))) : J.WP d 24 0 [J.R e, J.I n] [] h Q := by
  have hia : J.ia (J.cl h e) = true := by rcases hc with z | z <;> rw [z] <;> decide
  have hisA : J.isA (J.cl h e) 2 = true := by rcases hc with z | z <;> rw [z] <;> decide
  have hv2 : J.vld (J.nw h 214 n (7 + n)) e 0 (J.ln h e) = true := by
    rw [J.vld_iff] at hv ⊢
    intro i i1 i2
    rw [J.gv_nw, if_neg he, J.cl_nw]
    rcases hv i i1 i2 with z | z
    · exact Or.inl z
    · refine Or.inr ?_
      by_cases e9 : J.gv h e i = J.nx h
      · rw [if_pos e9]; decide
      · rw [if_neg e9]; exact z
  rw [b24_0]
  refine ⟨hc, by omega, ?_⟩
  rw [b25_0, if_pos rfl]
  refine ⟨⟨by omega, hus⟩, by rw [J.cl_nw, if_neg he]; exact hia, by omega, J.math_min ?_⟩
  rw [J.ln_nw, if_neg he, if_pos h1, J.af_s, b25_35]
  refine ⟨⟨h0, Int.le_refl _, Int.le_refl _, ?_, ?_, ?_, Or.inr ⟨?_, ?_, hv2⟩⟩, ?_⟩
  · rw [J.ln_nw, if_neg he]; omega
  · rw [J.ln_nw, if_pos rfl]; omega
  · rw [J.cl_nw, if_pos rfl]; decide
  · rw [J.cl_nw, if_neg he]; exact hisA
  · rw [J.cl_nw, if_pos rfl]
  · rw [J.af_s, b24_9]; exact hQ
theorem J.shr1 {x : Int} (h0 : 0 ≤ x) : J.shr32 x 1 = x / 2 := by unfold J.shr32; rfl
theorem J.al_grow (hok : J.Ok h) (hl : J.AL h a l) (hf : (l.length : Int) = J.ln h (J.gv h a 19)) (hus : J.us h + 17 + 2 * l.length ≤ J.UM) (hd : 4 ≤ d) (hQ : ∀ N : Int, (l.length : Int) < N → N ≤ 2 * l.length + 10 → Q (Sum.inl (some (J.R (J.nx h)))) (J.sv (J.cpy (J.nw h 214 N (7 + N)) (J.gv h a 19) 0 (J.nx h) 0 l.length) a 19 (J.nx h))) : J.WP d 19 0 [J.R a] [] h Q := by
  obtain ⟨c1, c2, c3, c4, c5, c6, c7⟩ := hl
  have hne : J.gv h a 19 ≠ J.nx h := by
    intro z
    have := hok.2.1 (J.gv h a 19) (by omega)
    rcases c3 with w | ⟨-, w, -⟩ <;> rw [this] at w <;> cases w
  have hna : a ≠ J.nx h := by
    intro z
    have := hok.2.1 a (by omega)
    rw [this] at c1; cases c1
  have hc : J.cl h (J.gv h a 19) = 214 ∨ J.cl h (J.gv h a 19) = 311 := c3.imp id (fun z => z.2.1)
  have hia : J.ia (J.cl h (J.gv h a 19)) = true := by rcases hc with z | z <;> rw [z] <;> decide
  have hv : J.vld h (J.gv h a 19) 0 (J.ln h (J.gv h a 19)) = true := by
    rw [J.vld_iff]
    intro i i1 i2
    exact c7 i i1 (by omega)
  rw [b19_0, c1, c2, J.w32_id (by omega) (by omega)]
  refine ⟨J.sb6, rfl, by omega, ?_⟩
  have big : J.WP (d - 1) 20 20 [J.R a, J.I ((l.length : Int) + 1), J.I (J.ln h (J.gv h a 19)), J.U] [] h (J.af J.WP d 19 7 10 [J.R a] [] Q) := by
    rw [b20_20, ← hf, J.shr1 (by omega), show (l.length : Int) + 1 - l.length = 1 by omega, J.w32_id (by omega) (by omega)]
    refine ⟨by omega, J.newLength (by omega) (by omega) (by omega) (by omega) (by omega) (by omega) (by omega) ?_⟩
    generalize hz : (l.length : Int) + (if (1 : Int) < (l.length : Int) / 2 then (l.length : Int) / 2 else 1) = N
    have hN : (l.length : Int) < N ∧ N ≤ 2 * l.length + 10 := by
      by_cases e : (1 : Int) < (l.length : Int) / 2
      · rw [if_pos e] at hz; omega
      · rw [if_neg e] at hz; omega
    rw [J.af_s, b20_30, c1]
    refine ⟨J.sb6, by omega, J.copyOf hc (by omega) (by omega) hne hv (by omega) (by omega) ?_⟩
    rw [J.af_s, b20_40, J.cl_cpy, J.cl_nw, if_neg hna, c1, J.af_s, b19_10, ← hf]
    exact ⟨⟨J.sb6, by decide⟩, hQ N hN.1 hN.2⟩
  rw [b20_0, c1]
  refine ⟨J.sb6, hia, ?_⟩
  by_cases e0 : J.ln h (J.gv h a 19) ≤ 0
  · rw [if_pos e0]
    by_cases e1 : J.gv h a 19 = J.gv h (-1) 1
    · rw [if_pos e1]
      refine ⟨by omega, J.math_max ?_⟩
      rw [if_neg (by omega), J.af_s, b20_52, J.cl_nw, if_neg hna, c1, J.af_s, b19_10]
      have q := hQ 10 (by omega) (by omega)
      have hl0 : (l.length : Int) = 0 := by omega
      rw [hl0, J.cpy0] at q
      exact ⟨⟨by omega, by omega⟩, ⟨J.sb6, by decide⟩, q⟩
    · rw [if_neg e1]; exact big
  · rw [if_neg e0]; exact big
theorem J.al_e {b : Int} (hl : J.AL h a l) (hb : b = J.gv h a 19) : J.cl h b = 214 ∨ J.cl h b = 311 := by rw [hb]; exact hl.2.2.1.imp id (fun z => z.2.1)
/-- the element goes behind the last; nothing else is touched but the list's own array and fields (or a new array) -/
theorem J.al_put {h1 : J.H} {x e : Int} (d : Nat) (hok : J.Ok h) (ha : J.cl h1 a = 6) (he : J.cl h1 e = 214) (hx : x = 0 ∨ J.okK (J.cl h1 x) = true) (hn : (l.length : Int) < J.ln h1 e) (hb : (l.length : Int) < 100000) (hQ : Q (Sum.inl none) (J.sv (J.sv h1 e l.length x) a 20 ((l.length : Int) + 1))) (y2 : Int) : J.WP d 18 11 [J.R a, J.R x, J.R e, J.I l.length] [] h1 Q := by
  rw [b18_11, he, ha, J.w32_id (by omega) (by omega)]
  exact ⟨⟨by decide, J.isA214, ⟨by omega, hn⟩, (by
    unfold J.aok
    rw [he]
    rcases hx with z | z
    · exact Or.inl z
    · exact Or.inr (Or.inl ⟨rfl, z⟩))⟩, ⟨J.sb6, by decide⟩, hQ⟩
theorem J.al_add {x : Int} (hok : J.Ok h) (hl : J.AL h a l) (hx : x = 0 ∨ J.okK (J.cl h x) = true) (hlen : l.length < 30000) (hus : J.us h + 17 + 2 * l.length ≤ J.UM) (hd : 6 ≤ d)
    (hQ : ∀ h', J.AL h' a (l ++ [x]) → J.Ok h' → J.Le h h' → (∀ y i, y < J.nx h → y ≠ a → y ≠ J.gv h a 19 → J.gv h' y i = J.gv h y i) → (J.gv h' a 19 = J.gv h a 19 ∨ J.nx h ≤ J.gv h' a 19) → J.us h' ≤ J.us h + 17 + 2 * l.length → Q (Sum.inl (some (J.I 1))) h') : J.WP d 17 0 [J.R a, J.R x] [] h Q := by
  have hk : J.WP d 17 0 [J.R a, J.R x] [] h (fun o h' => o = Sum.inl (some (J.I 1)) ∧ J.AL h' a (l ++ [x]) ∧ (∀ y i, y < J.nx h → y ≠ a → y ≠ J.gv h a 19 → J.gv h' y i = J.gv h y i) ∧ (J.gv h' a 19 = J.gv h a 19 ∨ J.nx h ≤ J.gv h' a 19) ∧ J.us h' ≤ J.us h + 17 + 2 * l.length) := by
    have hc := J.al_e hl rfl
    have hl0 := hl
    obtain ⟨c1, c2, c3, c4, c5, c6, c7⟩ := hl
    have hane : J.gv h a 19 ≠ a := by
      intro z
      rw [z, c1] at hc
      rcases hc with w | w <;> cases w
    have hia : J.ia (J.cl h (J.gv h a 19)) = true := by rcases hc with z | z <;> rw [z] <;> decide
    have hm1 : a ≠ -1 := by
      intro z
      have := hok.1 a (by omega)
      rw [this] at c1; cases c1
    rw [b17_0]
    have g19 : J.gv (J.sv h a 21 (J.w32 ((J.gv h a 21) + 1))) a 19 = J.gv h a 19 := by rw [J.gv_sv, if_neg (by omega)]
    have g20 : J.gv (J.sv h a 21 (J.w32 ((J.gv h a 21) + 1))) a 20 = l.length := by rw [J.gv_sv, if_neg (by omega)]; exact c2
    generalize hM : J.w32 ((J.gv h a 21) + 1) = M at g19 g20 ⊢
    rw [g19, g20, c1]
    refine ⟨J.sb6a, ⟨J.sb6a, by decide⟩, J.sb6, rfl, by omega, ?_⟩
    have hok1 : J.Ok (J.sv h a 21 M) := (J.Ok_sv hok (by rw [c1]; decide)).1
    rw [b18_0, J.cl_sv, J.ln_sv]
    refine ⟨hia, ?_⟩
    -- what is known of the list after the count has changed
    have hl1 : J.AL (J.sv h a 21 M) a l := by
      refine ⟨c1, g20, by rw [g19, J.gv_sv, if_neg (by omega)]; exact c3, by rw [g19]; exact c4, by rw [g19]; exact c5, fun j hj => ?_, fun j j1 j2 => ?_⟩
      · rw [g19, J.gv_sv, if_neg (by intro z; exact hane z.1)]; exact c6 j hj
      · rw [g19] at j2 ⊢
        rw [J.gv_sv, if_neg (by intro z; exact hane z.1)]; exact c7 j j1 j2
    by_cases hfull : (l.length : Int) = J.ln h (J.gv h a 19)
    · rw [if_pos hfull, J.cl_sv, c1]
      refine ⟨rfl, by omega, J.al_grow hok1 hl1 (by rw [g19]; exact hfull) (by rw [J.us_sv]; exact hus) (by omega) (fun N n1 n2 => ?_)⟩
      rw [J.af_s, b18_10, g19, J.nx_sv]
      have hnxa : J.nx h ≠ a := by
        intro z
        have := hok.2.1 a (by omega)
        rw [this] at c1; cases c1
      have hnxe : J.gv h a 19 ≠ J.nx h := by
        intro z
        have := hok.2.1 (J.gv h a 19) (by omega)
        rw [this] at hc
        rcases hc with w | w <;> cases w
      have hxn : J.okK (J.cl h x) = true → x ≠ J.nx h := by
        intro z w
        have := hok.2.1 x (by omega)
        rw [this] at z
        revert z; decide
      have hnx0 := hok.2.2
      refine J.al_put (h := h) (l := l) (d - 1) hok ?_ ?_ ?_ ?_ (by omega) ?_ 0
      · show (if a = J.nx (J.sv h a 21 M) then 214 else J.cl h a) = 6; rw [if_neg (show ¬ a = J.nx (J.sv h a 21 M) from fun z => hnxa (Eq.symm z))]; exact c1
      · simp only [J.cl_sv, J.cl_cpy, J.cl_nw, J.nx_sv]; rw [if_pos trivial]
      · refine hx.imp id (fun z => ?_)
        show J.okK (if x = J.nx (J.sv h a 21 M) then 214 else J.cl h x) = true
        rw [if_neg (show ¬ x = J.nx (J.sv h a 21 M) from hxn z)]; exact z
      · simp only [J.ln_sv, J.ln_cpy, J.ln_nw, J.nx_sv]; rw [if_pos trivial]; exact n1
      · rw [J.af_v, b17_23]
        refine ⟨Or.inr rfl, rfl, ?_, ?_, ?_, ?_⟩
        · have e19 : J.gv (J.sv (J.sv (J.sv (J.cpy (J.nw (J.sv h a 21 M) 214 N (7 + N)) (J.gv h a 19) 0 (J.nx h) 0 l.length) a 19 (J.nx h)) (J.nx h) l.length x) a 20 ((l.length : Int) + 1)) a 19 = J.nx h := by
            rw [J.gv_sv, if_neg (by omega), J.gv_sv, if_neg (by intro z; exact hnxa z.1.symm), J.gv_sv, if_pos ⟨rfl, rfl⟩]
          have gel : ∀ j : Int, J.gv (J.sv (J.sv (J.sv (J.cpy (J.nw (J.sv h a 21 M) 214 N (7 + N)) (J.gv h a 19) 0 (J.nx h) 0 l.length) a 19 (J.nx h)) (J.nx h) l.length x) a 20 ((l.length : Int) + 1)) (J.nx h) j = if j = l.length then x else if 0 ≤ j ∧ j < l.length then J.gv h (J.gv h a 19) j else 0 := by
            intro j
            rw [J.gv_sv, if_neg (by intro z; exact hnxa z.1), J.gv_sv]
            by_cases ej : j = l.length
            · rw [if_pos ⟨rfl, ej⟩, if_pos ej]
            · rw [if_neg (fun z => ej z.2), if_neg ej, J.gv_sv, if_neg (by intro z; exact hnxa z.1), J.gv_cpy]
              by_cases er : 0 ≤ j ∧ j < l.length
              · rw [if_pos ⟨rfl, by omega, by omega⟩, if_pos er, J.gv_nw, if_neg (show ¬ J.gv h a 19 = J.nx (J.sv h a 21 M) from hnxe), J.gv_sv, if_neg (by intro z; exact hane z.1), show (0 : Int) + (j - 0) = j by omega]
              · rw [if_neg (by omega), if_neg er, J.gv_nw, if_pos (show J.nx h = J.nx (J.sv h a 21 M) from rfl)]
          refine ⟨?_, ?_, ?_, ?_, ?_, fun j hj => ?_, fun j j1 j2 => ?_⟩
          · show (if a = J.nx (J.sv h a 21 M) then 214 else J.cl h a) = 6; rw [if_neg (show ¬ a = J.nx (J.sv h a 21 M) from fun z => hnxa (Eq.symm z))]; exact c1
          · rw [J.gv_sv, if_pos ⟨rfl, rfl⟩]; simp
          · left
            rw [e19]
            simp only [J.cl_sv, J.cl_cpy, J.cl_nw, J.nx_sv]; rw [if_pos trivial]
          · rw [e19]
            simp only [J.ln_sv, J.ln_cpy, J.ln_nw, J.nx_sv]
            rw [if_pos trivial]; simp; omega
          · rw [e19]
            simp only [J.ln_sv, J.ln_cpy, J.ln_nw, J.nx_sv]
            rw [if_pos trivial]; omega
          · rw [e19, gel]
            have hj' : j < l.length + 1 := by simpa using hj
            by_cases ej : (j : Int) = l.length
            · rw [if_pos ej]
              have : j = l.length := by omega
              rw [this]; simp
            · rw [if_neg ej, if_pos ⟨by omega, by omega⟩, c6 j (by omega)]
              simp [List.getElem?_append_left (show j < l.length by omega)]
          · rw [e19] at j2 ⊢
            rw [gel]
            by_cases ej : j = l.length
            · rw [if_pos ej]
              refine hx.imp id (fun z => ?_)
              show J.okK (if x = J.nx (J.sv h a 21 M) then 214 else J.cl h x) = true
              rw [if_neg (show ¬ x = J.nx (J.sv h a 21 M) from hxn z)]; exact z
            · rw [if_neg ej]
              by_cases er : 0 ≤ j ∧ j < l.length
              · rw [if_pos er]
                refine (c7 j er.1 (by omega)).imp id (fun z => ?_)
                have hw : J.gv h (J.gv h a 19) j ≠ J.nx h := by
                  intro w
                  have := hok.2.1 (J.gv h (J.gv h a 19) j) (by omega)
                  rw [this] at z
                  revert z; decide
                show J.okK (if J.gv h (J.gv h a 19) j = J.nx (J.sv h a 21 M) then 214 else J.cl h (J.gv h (J.gv h a 19) j)) = true
                rw [if_neg (show ¬ J.gv h (J.gv h a 19) j = J.nx (J.sv h a 21 M) from hw)]; exact z
              · rw [if_neg er]; exact Or.inl rfl
        · intro y i y1 y2 y3
          rw [J.gv_sv, if_neg (fun z => y2 z.1), J.gv_sv, if_neg (fun z => by omega), J.gv_sv, if_neg (fun z => y2 z.1), J.gv_cpy, if_neg (fun z => by omega), J.gv_nw, if_neg (by show y ≠ J.nx h; omega), J.gv_sv, if_neg (fun z => y2 z.1)]
        · right
          rw [J.gv_sv, if_neg (by omega), J.gv_sv, if_neg (by intro z; exact hnxa z.1.symm), J.gv_sv, if_pos ⟨rfl, rfl⟩]
          exact Int.le_refl _
        · show J.us h + (7 + N) ≤ _
          omega
    · rw [if_neg hfull]
      have he214 : J.cl h (J.gv h a 19) = 214 := by
        rcases c3 with z | ⟨z1, z2, z3⟩
        · exact z
        · exact absurd (by omega) hfull
      refine J.al_put (h := h) (l := l) (d - 1) hok c1 he214 hx (by rw [J.ln_sv]; omega) (by omega) ?_ 0
      rw [J.af_v, b17_23]
      refine ⟨Or.inr rfl, rfl, ?_, ?_, Or.inl ?_, ?_⟩
      · have e19 : J.gv (J.sv (J.sv (J.sv h a 21 M) (J.gv h a 19) l.length x) a 20 ((l.length : Int) + 1)) a 19 = J.gv h a 19 := by
          rw [J.gv_sv, if_neg (by omega), J.gv_sv, if_neg (by intro z; exact hane z.1.symm), g19]
        have gel : ∀ j : Int, J.gv (J.sv (J.sv (J.sv h a 21 M) (J.gv h a 19) l.length x) a 20 ((l.length : Int) + 1)) (J.gv h a 19) j = if j = l.length then x else J.gv h (J.gv h a 19) j := by
          intro j
          rw [J.gv_sv, if_neg (by intro z; exact hane z.1), J.gv_sv]
          by_cases ej : j = l.length
          · rw [if_pos ⟨rfl, ej⟩, if_pos ej]
          · rw [if_neg (fun z => ej z.2), if_neg ej, J.gv_sv, if_neg (by intro z; exact hane z.1)]
        refine ⟨c1, ?_, ?_, ?_, ?_, fun j hj => ?_, fun j j1 j2 => ?_⟩
        · rw [J.gv_sv, if_pos ⟨rfl, rfl⟩]; simp
        · left; rw [e19]; exact he214
        · rw [e19]; show _ ≤ J.ln h (J.gv h a 19); simp; omega
        · rw [e19]; exact c5
        · rw [e19, gel]
          have hj' : j < l.length + 1 := by simpa using hj
          by_cases ej : (j : Int) = l.length
          · rw [if_pos ej]
            have : j = l.length := by omega
            rw [this]; simp
          · rw [if_neg ej, c6 j (by omega)]
            simp [List.getElem?_append_left (show j < l.length by omega)]
        · rw [e19] at j2 ⊢
          rw [gel]
          by_cases ej : j = l.length
          · rw [if_pos ej]; exact hx
          · rw [if_neg ej]; exact c7 j j1 j2
      · intro y i y1 y2 y3
        rw [J.gv_sv, if_neg (fun z => y2 z.1), J.gv_sv, if_neg (fun z => y3 z.1), J.gv_sv, if_neg (fun z => y2 z.1)]
      · rw [J.gv_sv, if_neg (by omega), J.gv_sv, if_neg (by intro z; exact hane z.1.symm), g19]
      · show J.us h ≤ _; omega
  refine J.WP_mono _ _ _ _ _ _ _ _ (fun o h' q => ?_) (J.keep hok hk)
  obtain ⟨⟨q1, q2, q3, q4, q5⟩, q6, q7⟩ := q
  subst q1
  exact hQ h' q2 q6 q7 q3 q4 q5
theorem J.al_init (ha : J.cl h a = 6) (hd : 2 ≤ d) (hQ : Q (Sum.inl none) (J.sv (J.sv h a 21 0) a 19 (J.gv (J.sv h a 21 0) (-1) 1))) : J.WP d 9 0 [J.R a] [] h Q := by
  rw [b9_0, ha]
  refine ⟨J.ik6, by omega, ?_⟩
  rw [b10_0, ha]
  refine ⟨J.ik6, by omega, ?_⟩
  rw [b11_0, ha]
  refine ⟨J.ik6, ?_⟩
  rw [J.af_v, b10_4, ha]
  refine ⟨⟨J.sb6a, by decide⟩, ?_⟩
  rw [J.af_v, b9_4, J.cl_sv, ha]
  exact ⟨⟨J.sb6, by decide⟩, hQ⟩
theorem J.al_new (hok : J.Ok h) (ha : J.cl h a = 6) (hs : J.gv h a 20 = 0) (hc : J.cl h (J.gv h (-1) 1) = 311) (hn : J.ln h (J.gv h (-1) 1) = 0) : J.AL (J.sv (J.sv h a 21 0) a 19 (J.gv (J.sv h a 21 0) (-1) 1)) a [] := by
  have hm1 : (-1 : Int) ≠ a := by
    intro z
    have := hok.1 a (by omega)
    rw [this] at ha; cases ha
  have e1 : J.gv (J.sv h a 21 0) (-1) 1 = J.gv h (-1) 1 := by rw [J.gv_sv, if_neg (fun z => hm1 z.1)]
  have e2 : J.gv (J.sv (J.sv h a 21 0) a 19 (J.gv (J.sv h a 21 0) (-1) 1)) a 19 = J.gv h (-1) 1 := by rw [J.gv_sv, if_pos ⟨rfl, rfl⟩, e1]
  have e3 : J.gv (J.sv (J.sv h a 21 0) a 19 (J.gv (J.sv h a 21 0) (-1) 1)) (-1) 1 = J.gv h (-1) 1 := by rw [J.gv_sv, if_neg (fun z => hm1 z.1), e1]
  refine ⟨ha, ?_, ?_, ?_, ?_, fun j hj => ?_, fun j j1 j2 => ?_⟩
  · rw [J.gv_sv, if_neg (by omega), J.gv_sv, if_neg (by omega), hs]; rfl
  · right; rw [e2, e3]; exact ⟨rfl, hc, hn⟩
  · rw [e2]; show (0 : Int) ≤ J.ln h (J.gv h (-1) 1); omega
  · rw [e2]; show J.ln h (J.gv h (-1) 1) < 100000; omega
  · cases hj
  · rw [e2] at j2
    have j2 : j < J.ln h (J.gv h (-1) 1) := j2
    omega
theorem J.al_empty (hl : J.AL h a l) (hQ : Q (Sum.inl (some (J.I (if l.length = 0 then 1 else 0)))) h) : J.WP d 354 0 [J.R a] [] h Q := by
  rw [b354_0, hl.1, hl.2.1]
  refine ⟨J.sb6, ?_⟩
  by_cases e : l.length = 0
  · rw [if_pos (by omega), b354_12]; rw [if_pos e] at hQ; exact ⟨Or.inr rfl, hQ⟩
  · rw [if_neg (by omega), b354_12]; rw [if_neg e] at hQ; exact ⟨Or.inl rfl, hQ⟩
/-- where a thing lies, by identity (its class has Object's equals) -/
theorem J.al_find_from (hl : J.AL h a l) {x : Int} (hs : J.sel (J.cl h x) 229 = some (364, 2)) (hd : 1 ≤ d) : ∀ (n k : Nat), n + k = l.length → (∀ j : Nat, j < k → l.getD j 0 ≠ x) → (∀ i : Int, ((∃ m : Nat, i = m ∧ m < l.length ∧ l.getD m 0 = x ∧ ∀ j : Nat, j < m → l.getD j 0 ≠ x) ∨ (i = -1 ∧ ∀ j : Nat, j < l.length → l.getD j 0 ≠ x)) → Q (Sum.inl (some (J.I i))) h) → J.WP d 362 42 [J.R a, J.R x, J.I 0, J.I l.length, J.R (J.gv h a 19), J.I k] [] h Q := by
  obtain ⟨c1, c2, c3, c4, c5, c6, c7⟩ := hl
  have hisA : J.isA (J.cl h (J.gv h a 19)) 2 = true := by rcases c3 with z | ⟨-, z, -⟩ <;> rw [z] <;> decide
  intro n
  induction n with
  | zero =>
    intro k hk hno hQ
    rw [b362_42, if_neg (by omega), b362_69]
    exact hQ _ (Or.inr ⟨rfl, fun j hj => hno j (by omega)⟩)
  | succ n ih =>
    intro k hk hno hQ
    rw [b362_42, if_pos (by omega), c6 k (by omega)]
    refine ⟨⟨hisA, ⟨by omega, by omega⟩⟩, ?_⟩
    rw [J.r_virt i362_54 rfl _ rfl hs (by decide) rfl (by decide)]
    refine ⟨by omega, ?_⟩
    show J.WP (d - 1) 364 0 [J.R x, J.R (l.getD k 0)] [] h _
    rw [b364_0]
    by_cases e : x = l.getD k 0
    · rw [if_pos e, b364_10, J.af_s, b362_57, if_neg (by decide)]
      exact ⟨Or.inr rfl, hQ _ (Or.inl ⟨k, rfl, by omega, e.symm, hno⟩)⟩
    · rw [if_neg e, b364_10, J.af_s, b362_57, if_pos rfl, J.w32_id (by omega) (by omega)]
      refine ⟨Or.inl rfl, ?_⟩
      have := ih (k + 1) (by omega) (fun j hj => ?_) hQ
      · simpa using this
      · by_cases e2 : j = k
        · rw [e2]; exact fun z => e z.symm
        · exact hno j (by omega)
theorem J.al_find (hl : J.AL h a l) {x : Int} (hx : x ≠ 0) (hs : J.sel (J.cl h x) 229 = some (364, 2)) (hd : 2 ≤ d) (hQ : ∀ i : Int, ((∃ m : Nat, i = m ∧ m < l.length ∧ l.getD m 0 = x ∧ ∀ j : Nat, j < m → l.getD j 0 ≠ x) ∨ (i = -1 ∧ ∀ j : Nat, j < l.length → l.getD j 0 ≠ x)) → Q (Sum.inl (some (J.I i))) h) : J.WP d 361 0 [J.R a, J.R x] [] h Q := by
  rw [b361_0, hl.1, hl.2.1]
  refine ⟨J.sb6, rfl, by omega, ?_⟩
  rw [b362_0, hl.1, if_neg hx]
  refine ⟨J.sb6, J.al_find_from hl hs (by omega) l.length 0 (by omega) (fun j hj => by omega) (fun i hi => ?_)⟩
  rw [J.af_s, b361_10]
  exact hQ i hi
theorem J.al_contains (hl : J.AL h a l) {x : Int} (hx : x ≠ 0) (hs : J.sel (J.cl h x) 229 = some (364, 2)) (hd : 3 ≤ d) (hQ : Q (Sum.inl (some (J.I (if ∃ j : Nat, j < l.length ∧ l.getD j 0 = x then 1 else 0)))) h) : J.WP d 360 0 [J.R a, J.R x] [] h Q := by
  rw [b360_0, hl.1]
  refine ⟨rfl, by omega, J.al_find hl hx hs (by omega) (fun i hi => ?_)⟩
  rw [J.af_s, b360_5]
  rcases hi with ⟨m, e1, e2, e3, -⟩ | ⟨e1, e2⟩
  · rw [if_neg (by omega), b360_13]
    rw [if_pos ⟨m, e2, e3⟩] at hQ
    exact ⟨Or.inr rfl, hQ⟩
  · rw [if_pos (by omega), b360_13]
    rw [if_neg (fun ⟨j, j1, j2⟩ => e2 j j1 j2)] at hQ
    exact ⟨Or.inl rfl, hQ⟩
end
end
section
set_option maxRecDepth 100000
/-! 94 java/lang/String.length()I -/
theorem i94_0 : J.cd 94 0 = some (.aload 0, 1, 0, 0, 0) := by decide +kernel
theorem i94_1 : J.cd 94 1 = some (.getfield 9, 4, 170, 23, 2) := by decide +kernel
theorem i94_4 : J.cd 94 4 = some (.arraylength, 5, 4, 0, 0) := by decide +kernel
theorem i94_5 : J.cd 94 5 = some (.aload 0, 6, 0, 0, 0) := by decide +kernel
theorem i94_6 : J.cd 94 6 = some (.invokevirtual 335, 9, 205, 0, 0) := by decide +kernel
theorem i94_9 : J.cd 94 9 = some (.ishr, 10, 9, 0, 0) := by decide +kernel
theorem i94_10 : J.cd 94 10 = some (.ireturn, 11, 0, 0, 0) := by decide +kernel
theorem b94_0 (d : Nat) (h : J.H) (Q : J.O → J.H → Prop) (x0 : Int) : J.WP d 94 0 [J.R x0] [] h Q ↔ (J.sb (J.cl h x0) 23 = true) ∧ ((J.ia (J.cl h (J.gv h x0 170)) = true) ∧ (J.WP d 94 6 [J.R x0] [J.R x0, J.I (J.ln h (J.gv h x0 170))] h Q)) := by
  refine (J.r_aload i94_0 rfl).trans ?_
  refine (J.r_getR i94_1).trans (and_congr_right fun q0 => ?_)
  refine (J.r_alen i94_4).trans (and_congr_right fun q1 => ?_)
  refine (J.r_aload i94_5 rfl).trans ?_
  exact Iff.rfl
theorem b94_6_c23 (d : Nat) (h : J.H) (Q : J.O → J.H → Prop) (x0 s0 s1 : Int) (hq : J.cl h s1 = 23) : J.WP d 94 6 [J.R x0] [J.R s1, J.I s0] h Q ↔ 0 < d ∧ J.WP (d - 1) 95 0 [J.R s1] [] h (J.af J.WP d 94 6 9 [J.R x0] [J.I s0] Q) := by
  exact J.r_virt (k2 := 95) (m := 1) i94_6 rfl 23 hq (by decide +kernel) (by decide) rfl (Nat.le_of_ble_eq_true rfl)
theorem b94_6_c321 (d : Nat) (h : J.H) (Q : J.O → J.H → Prop) (x0 s0 s1 : Int) (hq : J.cl h s1 = 321) : J.WP d 94 6 [J.R x0] [J.R s1, J.I s0] h Q ↔ 0 < d ∧ J.WP (d - 1) 95 0 [J.R s1] [] h (J.af J.WP d 94 6 9 [J.R x0] [J.I s0] Q) := by
  exact J.r_virt (k2 := 95) (m := 1) i94_6 rfl 321 hq (by decide +kernel) (by decide) rfl (Nat.le_of_ble_eq_true rfl)
theorem b94_9 (d : Nat) (h : J.H) (Q : J.O → J.H → Prop) (x0 s0 s1 : Int) : J.WP d 94 9 [J.R x0] [J.I s1, J.I s0] h Q ↔ Q (Sum.inl (some (J.I (J.shr32 s0 s1)))) h := by
  refine (J.r_ishr i94_9).trans ?_
  exact J.r_iret i94_10 rfl
/-! 95 java/lang/String.coder()B -/
theorem i95_0 : J.cd 95 0 = some (.getstatic 38, 3, 0, 0, 3) := by decide +kernel
theorem i95_3 : J.cd 95 3 = some (.ifCond .eq 10, 6, 13, 0, 0) := by decide +kernel
theorem i95_6 : J.cd 95 6 = some (.aload 0, 7, 0, 0, 0) := by decide +kernel
theorem i95_7 : J.cd 95 7 = some (.getfield 15, 10, 171, 23, 4) := by decide +kernel
theorem i95_10 : J.cd 95 10 = some (.goto 4, 13, 14, 0, 0) := by decide +kernel
theorem i95_13 : J.cd 95 13 = some (.iconst 1, 14, 13, 0, 0) := by decide +kernel
theorem i95_14 : J.cd 95 14 = some (.ireturn, 15, 0, 0, 4) := by decide +kernel
theorem b95_0 (d : Nat) (h : J.H) (Q : J.O → J.H → Prop) (x0 : Int) : J.WP d 95 0 [J.R x0] [] h Q ↔ if (J.gv h (-1) 0) = 0 then (J.WP d 95 14 [J.R x0] [J.I 1] h Q) else ((J.sb (J.cl h x0) 23 = true) ∧ (J.WP d 95 14 [J.R x0] [J.I (J.gv h x0 171)] h Q)) := by
  refine (J.r_getsZ i95_0).trans ?_
  refine (J.r_ifeq i95_3).trans (J.ite2 ?_ ?_)
  · refine (J.r_iconst i95_13).trans ?_
    exact Iff.rfl
  · refine (J.r_aload i95_6 rfl).trans ?_
    refine (J.r_getB i95_7).trans (and_congr_right fun q0 => ?_)
    refine (J.r_goto i95_10).trans ?_
    exact Iff.rfl
theorem b95_14 (d : Nat) (h : J.H) (Q : J.O → J.H → Prop) (x0 s0 : Int) : J.WP d 95 14 [J.R x0] [J.I s0] h Q ↔ (J.br s0) ∧ Q (Sum.inl (some (J.I s0))) h := by
  exact J.r_iretB i95_14 rfl
/-! 142 java/lang/String.equals(Ljava/lang/Object;)Z -/
theorem i142_0 : J.cd 142 0 = some (.aload 0, 1, 0, 0, 0) := by decide +kernel
theorem i142_1 : J.cd 142 1 = some (.aload 1, 2, 0, 0, 0) := by decide +kernel
theorem i142_2 : J.cd 142 2 = some (.if_acmp .ne 5, 5, 7, 0, 0) := by decide +kernel
theorem i142_5 : J.cd 142 5 = some (.iconst 1, 6, 5, 0, 0) := by decide +kernel
theorem i142_6 : J.cd 142 6 = some (.ireturn, 7, 0, 0, 3) := by decide +kernel
theorem i142_7 : J.cd 142 7 = some (.aload 1, 8, 0, 0, 0) := by decide +kernel
theorem i142_8 : J.cd 142 8 = some (.instanceof 10, 11, 23, 11, 213) := by decide +kernel
theorem i142_11 : J.cd 142 11 = some (.ifCond .eq 43, 14, 54, 0, 0) := by decide +kernel
theorem i142_14 : J.cd 142 14 = some (.aload 1, 15, 0, 0, 0) := by decide +kernel
theorem i142_15 : J.cd 142 15 = some (.checkcast 10, 18, 23, 11, 213) := by decide +kernel
theorem i142_18 : J.cd 142 18 = some (.astore 2, 19, 0, 0, 0) := by decide +kernel
theorem i142_19 : J.cd 142 19 = some (.getstatic 38, 22, 0, 0, 3) := by decide +kernel
theorem i142_22 : J.cd 142 22 = some (.ifCond .eq 14, 25, 36, 0, 0) := by decide +kernel
theorem i142_25 : J.cd 142 25 = some (.aload 0, 26, 0, 0, 0) := by decide +kernel
theorem i142_26 : J.cd 142 26 = some (.getfield 15, 29, 171, 23, 4) := by decide +kernel
theorem i142_29 : J.cd 142 29 = some (.aload 2, 30, 0, 0, 0) := by decide +kernel
theorem i142_30 : J.cd 142 30 = some (.getfield 15, 33, 171, 23, 4) := by decide +kernel
theorem i142_33 : J.cd 142 33 = some (.if_icmp .ne 21, 36, 54, 0, 0) := by decide +kernel
theorem i142_36 : J.cd 142 36 = some (.aload 0, 37, 0, 0, 0) := by decide +kernel
theorem i142_37 : J.cd 142 37 = some (.getfield 9, 40, 170, 23, 2) := by decide +kernel
theorem i142_40 : J.cd 142 40 = some (.aload 2, 41, 0, 0, 0) := by decide +kernel
theorem i142_41 : J.cd 142 41 = some (.getfield 9, 44, 170, 23, 2) := by decide +kernel
theorem i142_44 : J.cd 142 44 = some (.invokestatic 541, 47, 143, 2, 3) := by decide +kernel
theorem i142_47 : J.cd 142 47 = some (.ifCond .eq 7, 50, 54, 0, 0) := by decide +kernel
theorem i142_50 : J.cd 142 50 = some (.iconst 1, 51, 50, 0, 0) := by decide +kernel
theorem i142_51 : J.cd 142 51 = some (.goto 4, 54, 55, 0, 0) := by decide +kernel
theorem i142_54 : J.cd 142 54 = some (.iconst 0, 55, 54, 0, 0) := by decide +kernel
theorem i142_55 : J.cd 142 55 = some (.ireturn, 56, 0, 0, 3) := by decide +kernel
theorem b142_0 (d : Nat) (h : J.H) (Q : J.O → J.H → Prop) (x0 x1 : Int) : J.WP d 142 0 [J.R x0, J.R x1, J.U] [] h Q ↔ if x0 = x1 then ((J.zo 1) ∧ Q (Sum.inl (some (J.I 1))) h) else ((J.iok h x1 23) ∧ (if (if x1 ≠ 0 ∧ J.sb (J.cl h x1) 23 = true then (1 : Int) else 0) = 0 then (J.WP d 142 54 [J.R x0, J.R x1, J.U] [] h Q) else ((J.no x1 ∨ J.sb (J.cl h x1) 23 = true) ∧ (if (J.gv h (-1) 0) = 0 then (J.WP d 142 36 [J.R x0, J.R x1, J.R x1] [] h Q) else ((J.sb (J.cl h x0) 23 = true) ∧ ((J.sb (J.cl h x1) 23 = true) ∧ (if (J.gv h x0 171) = (J.gv h x1 171) then (J.WP d 142 36 [J.R x0, J.R x1, J.R x1] [] h Q) else (J.WP d 142 54 [J.R x0, J.R x1, J.R x1] [] h Q)))))))) := by
  refine (J.r_aload i142_0 rfl).trans ?_
  refine (J.r_aload i142_1 rfl).trans ?_
  refine (J.r_acne i142_2).trans (J.ite2 ?_ ?_)
  · refine (J.r_iconst i142_5).trans ?_
    exact J.r_iretZ i142_6 rfl
  · refine (J.r_aload i142_7 rfl).trans ?_
    refine (J.r_inst i142_8).trans (and_congr_right fun q0 => ?_)
    refine (J.r_ifeq i142_11).trans (J.ite2 ?_ ?_)
    · exact Iff.rfl
    · refine (J.r_aload i142_14 rfl).trans ?_
      refine (J.r_cast i142_15).trans (and_congr_right fun q1 => ?_)
      refine (J.r_astore i142_18 (Nat.le_of_ble_eq_true rfl) rfl).trans ?_
      refine (J.r_getsZ i142_19).trans ?_
      refine (J.r_ifeq i142_22).trans (J.ite2 ?_ ?_)
      · exact Iff.rfl
      · refine (J.r_aload i142_25 rfl).trans ?_
        refine (J.r_getB i142_26).trans (and_congr_right fun q2 => ?_)
        refine (J.r_aload i142_29 rfl).trans ?_
        refine (J.r_getB i142_30).trans (and_congr_right fun q3 => ?_)
        refine (J.r_icne i142_33).trans (J.ite2 ?_ ?_)
        · exact Iff.rfl
        · exact Iff.rfl
theorem b142_36 (d : Nat) (h : J.H) (Q : J.O → J.H → Prop) (x0 x1 x2 : Int) : J.WP d 142 36 [J.R x0, J.R x1, J.R x2] [] h Q ↔ (J.sb (J.cl h x0) 23 = true) ∧ ((J.sb (J.cl h x2) 23 = true) ∧ (0 < d ∧ J.WP (d - 1) 143 0 [J.R (J.gv h x0 170), J.R (J.gv h x2 170), J.U] [] h (J.af J.WP d 142 44 47 [J.R x0, J.R x1, J.R x2] [] Q))) := by
  refine (J.r_aload i142_36 rfl).trans ?_
  refine (J.r_getR i142_37).trans (and_congr_right fun q0 => ?_)
  refine (J.r_aload i142_40 rfl).trans ?_
  refine (J.r_getR i142_41).trans (and_congr_right fun q1 => ?_)
  exact J.r_stat i142_44 (by decide) (Nat.le_of_ble_eq_true rfl) rfl rfl (Nat.le_of_ble_eq_true rfl)
theorem b142_47 (d : Nat) (h : J.H) (Q : J.O → J.H → Prop) (x0 x1 x2 s0 : Int) : J.WP d 142 47 [J.R x0, J.R x1, J.R x2] [J.I s0] h Q ↔ if s0 = 0 then (J.WP d 142 54 [J.R x0, J.R x1, J.R x2] [] h Q) else (J.WP d 142 55 [J.R x0, J.R x1, J.R x2] [J.I 1] h Q) := by
  refine (J.r_ifeq i142_47).trans (J.ite2 ?_ ?_)
  · exact Iff.rfl
  · refine (J.r_iconst i142_50).trans ?_
    refine (J.r_goto i142_51).trans ?_
    exact Iff.rfl
theorem b142_54 (d : Nat) (h : J.H) (Q : J.O → J.H → Prop) (x0 x1 : Int) (v2 : J.V) : J.WP d 142 54 [J.R x0, J.R x1, v2] [] h Q ↔ J.WP d 142 55 [J.R x0, J.R x1, v2] [J.I 0] h Q := by
  refine (J.r_iconst i142_54).trans ?_
  exact Iff.rfl
theorem b142_55 (d : Nat) (h : J.H) (Q : J.O → J.H → Prop) (x0 x1 s0 : Int) (v2 : J.V) : J.WP d 142 55 [J.R x0, J.R x1, v2] [J.I s0] h Q ↔ (J.zo s0) ∧ Q (Sum.inl (some (J.I s0))) h := by
  exact J.r_iretZ i142_55 rfl
/-! 143 java/lang/StringLatin1.equals([B[B)Z -/
theorem i143_0 : J.cd 143 0 = some (.aload 0, 1, 0, 0, 0) := by decide +kernel
theorem i143_1 : J.cd 143 1 = some (.arraylength, 2, 1, 0, 0) := by decide +kernel
theorem i143_2 : J.cd 143 2 = some (.aload 1, 3, 0, 0, 0) := by decide +kernel
theorem i143_3 : J.cd 143 3 = some (.arraylength, 4, 3, 0, 0) := by decide +kernel
theorem i143_4 : J.cd 143 4 = some (.if_icmp .ne 30, 7, 34, 0, 0) := by decide +kernel
theorem i143_7 : J.cd 143 7 = some (.iconst 0, 8, 7, 0, 0) := by decide +kernel
theorem i143_8 : J.cd 143 8 = some (.istore 2, 9, 0, 0, 0) := by decide +kernel
theorem i143_9 : J.cd 143 9 = some (.iload 2, 10, 0, 0, 0) := by decide +kernel
theorem i143_10 : J.cd 143 10 = some (.aload 0, 11, 0, 0, 0) := by decide +kernel
theorem i143_11 : J.cd 143 11 = some (.arraylength, 12, 11, 0, 0) := by decide +kernel
theorem i143_12 : J.cd 143 12 = some (.if_icmp .ge 20, 15, 32, 0, 0) := by decide +kernel
theorem i143_15 : J.cd 143 15 = some (.aload 0, 16, 0, 0, 0) := by decide +kernel
theorem i143_16 : J.cd 143 16 = some (.iload 2, 17, 0, 0, 0) := by decide +kernel
theorem i143_17 : J.cd 143 17 = some (.baload, 18, 17, 0, 0) := by decide +kernel
theorem i143_18 : J.cd 143 18 = some (.aload 1, 19, 0, 0, 0) := by decide +kernel
theorem i143_19 : J.cd 143 19 = some (.iload 2, 20, 0, 0, 0) := by decide +kernel
theorem i143_20 : J.cd 143 20 = some (.baload, 21, 20, 0, 0) := by decide +kernel
theorem i143_21 : J.cd 143 21 = some (.if_icmp .eq 5, 24, 26, 0, 0) := by decide +kernel
theorem i143_24 : J.cd 143 24 = some (.iconst 0, 25, 24, 0, 0) := by decide +kernel
theorem i143_25 : J.cd 143 25 = some (.ireturn, 26, 0, 0, 3) := by decide +kernel
theorem i143_26 : J.cd 143 26 = some (.iinc 2 1, 29, 26, 0, 0) := by decide +kernel
theorem i143_29 : J.cd 143 29 = some (.goto (-20), 32, 9, 0, 0) := by decide +kernel
theorem i143_32 : J.cd 143 32 = some (.iconst 1, 33, 32, 0, 0) := by decide +kernel
theorem i143_33 : J.cd 143 33 = some (.ireturn, 34, 0, 0, 3) := by decide +kernel
theorem i143_34 : J.cd 143 34 = some (.iconst 0, 35, 34, 0, 0) := by decide +kernel
theorem i143_35 : J.cd 143 35 = some (.ireturn, 36, 0, 0, 3) := by decide +kernel
theorem b143_0 (d : Nat) (h : J.H) (Q : J.O → J.H → Prop) (x0 x1 : Int) : J.WP d 143 0 [J.R x0, J.R x1, J.U] [] h Q ↔ (J.ia (J.cl h x0) = true) ∧ ((J.ia (J.cl h x1) = true) ∧ (if (J.ln h x0) = (J.ln h x1) then (J.WP d 143 9 [J.R x0, J.R x1, J.I 0] [] h Q) else ((J.zo 0) ∧ Q (Sum.inl (some (J.I 0))) h))) := by
  refine (J.r_aload i143_0 rfl).trans ?_
  refine (J.r_alen i143_1).trans (and_congr_right fun q0 => ?_)
  refine (J.r_aload i143_2 rfl).trans ?_
  refine (J.r_alen i143_3).trans (and_congr_right fun q1 => ?_)
  refine (J.r_icne i143_4).trans (J.ite2 ?_ ?_)
  · refine (J.r_iconst i143_7).trans ?_
    refine (J.r_istore i143_8 (Nat.le_of_ble_eq_true rfl) rfl).trans ?_
    exact Iff.rfl
  · refine (J.r_iconst i143_34).trans ?_
    exact J.r_iretZ i143_35 rfl
theorem b143_9 (d : Nat) (h : J.H) (Q : J.O → J.H → Prop) (x0 x1 x2 : Int) : J.WP d 143 9 [J.R x0, J.R x1, J.I x2] [] h Q ↔ (J.ia (J.cl h x0) = true) ∧ (if x2 < (J.ln h x0) then ((J.isA (J.cl h x0) 3 = true ∧ J.rg x2 (J.ln h x0)) ∧ ((J.isA (J.cl h x1) 3 = true ∧ J.rg x2 (J.ln h x1)) ∧ (if (J.gv h x0 x2) = (J.gv h x1 x2) then (J.WP d 143 9 [J.R x0, J.R x1, J.I (J.w32 (x2 + 1))] [] h Q) else ((J.zo 0) ∧ Q (Sum.inl (some (J.I 0))) h)))) else ((J.zo 1) ∧ Q (Sum.inl (some (J.I 1))) h)) := by
  refine (J.r_iload i143_9 rfl).trans ?_
  refine (J.r_aload i143_10 rfl).trans ?_
  refine (J.r_alen i143_11).trans (and_congr_right fun q0 => ?_)
  refine (J.r_icge i143_12).trans (J.ite2 ?_ ?_)
  · refine (J.r_aload i143_15 rfl).trans ?_
    refine (J.r_iload i143_16 rfl).trans ?_
    refine (J.r_baload i143_17).trans (and_congr_right fun q1 => ?_)
    refine (J.r_aload i143_18 rfl).trans ?_
    refine (J.r_iload i143_19 rfl).trans ?_
    refine (J.r_baload i143_20).trans (and_congr_right fun q2 => ?_)
    refine (J.r_iceq i143_21).trans (J.ite2 ?_ ?_)
    · refine (J.r_iinc i143_26 rfl rfl).trans ?_
      refine (J.r_goto i143_29).trans ?_
      exact Iff.rfl
    · refine (J.r_iconst i143_24).trans ?_
      exact J.r_iretZ i143_25 rfl
  · refine (J.r_iconst i143_32).trans ?_
    exact J.r_iretZ i143_33 rfl
/-! 195 java/lang/String.charAt(I)C -/
theorem i195_0 : J.cd 195 0 = some (.aload 0, 1, 0, 0, 0) := by decide +kernel
theorem i195_1 : J.cd 195 1 = some (.invokevirtual 492, 4, 209, 0, 0) := by decide +kernel
theorem i195_4 : J.cd 195 4 = some (.ifCond .eq 12, 7, 16, 0, 0) := by decide +kernel
theorem i195_7 : J.cd 195 7 = some (.aload 0, 8, 0, 0, 0) := by decide +kernel
theorem i195_8 : J.cd 195 8 = some (.getfield 9, 11, 170, 23, 2) := by decide +kernel
theorem i195_11 : J.cd 195 11 = some (.iload 1, 12, 0, 0, 0) := by decide +kernel
theorem i195_12 : J.cd 195 12 = some (.invokestatic 495, 15, 197, 2, 2) := by decide +kernel
theorem i195_15 : J.cd 195 15 = some (.ireturn, 16, 0, 0, 5) := by decide +kernel
theorem i195_16 : J.cd 195 16 = some (.aload 0, 17, 0, 0, 0) := by decide +kernel
theorem i195_17 : J.cd 195 17 = some (.getfield 9, 20, 170, 23, 2) := by decide +kernel
theorem i195_20 : J.cd 195 20 = some (.iload 1, 21, 0, 0, 0) := by decide +kernel
theorem i195_21 : J.cd 195 21 = some (.invokestatic 498, 24, 198, 2, 2) := by decide +kernel
theorem i195_24 : J.cd 195 24 = some (.ireturn, 25, 0, 0, 5) := by decide +kernel
theorem b195_0 (d : Nat) (h : J.H) (Q : J.O → J.H → Prop) (x0 x1 : Int) : J.WP d 195 0 [J.R x0, J.I x1] [] h Q ↔ J.WP d 195 1 [J.R x0, J.I x1] [J.R x0] h Q := by
  refine (J.r_aload i195_0 rfl).trans ?_
  exact Iff.rfl
theorem b195_1_c23 (d : Nat) (h : J.H) (Q : J.O → J.H → Prop) (x0 x1 s0 : Int) (hq : J.cl h s0 = 23) : J.WP d 195 1 [J.R x0, J.I x1] [J.R s0] h Q ↔ 0 < d ∧ J.WP (d - 1) 196 0 [J.R s0] [] h (J.af J.WP d 195 1 4 [J.R x0, J.I x1] [] Q) := by
  exact J.r_virt (k2 := 196) (m := 1) i195_1 rfl 23 hq (by decide +kernel) (by decide) rfl (Nat.le_of_ble_eq_true rfl)
theorem b195_1_c321 (d : Nat) (h : J.H) (Q : J.O → J.H → Prop) (x0 x1 s0 : Int) (hq : J.cl h s0 = 321) : J.WP d 195 1 [J.R x0, J.I x1] [J.R s0] h Q ↔ 0 < d ∧ J.WP (d - 1) 196 0 [J.R s0] [] h (J.af J.WP d 195 1 4 [J.R x0, J.I x1] [] Q) := by
  exact J.r_virt (k2 := 196) (m := 1) i195_1 rfl 321 hq (by decide +kernel) (by decide) rfl (Nat.le_of_ble_eq_true rfl)
theorem b195_4 (d : Nat) (h : J.H) (Q : J.O → J.H → Prop) (x0 x1 s0 : Int) : J.WP d 195 4 [J.R x0, J.I x1] [J.I s0] h Q ↔ if s0 = 0 then ((J.sb (J.cl h x0) 23 = true) ∧ (0 < d ∧ J.WP (d - 1) 198 0 [J.R (J.gv h x0 170), J.I x1] [] h (J.af J.WP d 195 21 24 [J.R x0, J.I x1] [] Q))) else ((J.sb (J.cl h x0) 23 = true) ∧ (0 < d ∧ J.WP (d - 1) 197 0 [J.R (J.gv h x0 170), J.I x1] [] h (J.af J.WP d 195 12 15 [J.R x0, J.I x1] [] Q))) := by
  refine (J.r_ifeq i195_4).trans (J.ite2 ?_ ?_)
  · refine (J.r_aload i195_16 rfl).trans ?_
    refine (J.r_getR i195_17).trans (and_congr_right fun q0 => ?_)
    refine (J.r_iload i195_20 rfl).trans ?_
    exact J.r_stat i195_21 (by decide) (Nat.le_of_ble_eq_true rfl) rfl rfl (Nat.le_of_ble_eq_true rfl)
  · refine (J.r_aload i195_7 rfl).trans ?_
    refine (J.r_getR i195_8).trans (and_congr_right fun q0 => ?_)
    refine (J.r_iload i195_11 rfl).trans ?_
    exact J.r_stat i195_12 (by decide) (Nat.le_of_ble_eq_true rfl) rfl rfl (Nat.le_of_ble_eq_true rfl)
theorem b195_15 (d : Nat) (h : J.H) (Q : J.O → J.H → Prop) (x0 x1 s0 : Int) : J.WP d 195 15 [J.R x0, J.I x1] [J.I s0] h Q ↔ (J.cr s0) ∧ Q (Sum.inl (some (J.I s0))) h := by
  exact J.r_iretC i195_15 rfl
theorem b195_24 (d : Nat) (h : J.H) (Q : J.O → J.H → Prop) (x0 x1 s0 : Int) : J.WP d 195 24 [J.R x0, J.I x1] [J.I s0] h Q ↔ (J.cr s0) ∧ Q (Sum.inl (some (J.I s0))) h := by
  exact J.r_iretC i195_24 rfl
/-! 196 java/lang/String.isLatin1()Z -/
theorem i196_0 : J.cd 196 0 = some (.getstatic 38, 3, 0, 0, 3) := by decide +kernel
theorem i196_3 : J.cd 196 3 = some (.ifCond .eq 14, 6, 17, 0, 0) := by decide +kernel
theorem i196_6 : J.cd 196 6 = some (.aload 0, 7, 0, 0, 0) := by decide +kernel
theorem i196_7 : J.cd 196 7 = some (.getfield 15, 10, 171, 23, 4) := by decide +kernel
theorem i196_10 : J.cd 196 10 = some (.ifCond .ne 7, 13, 17, 0, 0) := by decide +kernel
theorem i196_13 : J.cd 196 13 = some (.iconst 1, 14, 13, 0, 0) := by decide +kernel
theorem i196_14 : J.cd 196 14 = some (.goto 4, 17, 18, 0, 0) := by decide +kernel
theorem i196_17 : J.cd 196 17 = some (.iconst 0, 18, 17, 0, 0) := by decide +kernel
theorem i196_18 : J.cd 196 18 = some (.ireturn, 19, 0, 0, 3) := by decide +kernel
theorem b196_0 (d : Nat) (h : J.H) (Q : J.O → J.H → Prop) (x0 : Int) : J.WP d 196 0 [J.R x0] [] h Q ↔ if (J.gv h (-1) 0) = 0 then (J.WP d 196 17 [J.R x0] [] h Q) else ((J.sb (J.cl h x0) 23 = true) ∧ (if (J.gv h x0 171) = 0 then (J.WP d 196 18 [J.R x0] [J.I 1] h Q) else (J.WP d 196 17 [J.R x0] [] h Q))) := by
  refine (J.r_getsZ i196_0).trans ?_
  refine (J.r_ifeq i196_3).trans (J.ite2 ?_ ?_)
  · exact Iff.rfl
  · refine (J.r_aload i196_6 rfl).trans ?_
    refine (J.r_getB i196_7).trans (and_congr_right fun q0 => ?_)
    refine (J.r_ifne i196_10).trans (J.ite2 ?_ ?_)
    · refine (J.r_iconst i196_13).trans ?_
      refine (J.r_goto i196_14).trans ?_
      exact Iff.rfl
    · exact Iff.rfl
theorem b196_17 (d : Nat) (h : J.H) (Q : J.O → J.H → Prop) (x0 : Int) : J.WP d 196 17 [J.R x0] [] h Q ↔ J.WP d 196 18 [J.R x0] [J.I 0] h Q := by
  refine (J.r_iconst i196_17).trans ?_
  exact Iff.rfl
theorem b196_18 (d : Nat) (h : J.H) (Q : J.O → J.H → Prop) (x0 s0 : Int) : J.WP d 196 18 [J.R x0] [J.I s0] h Q ↔ (J.zo s0) ∧ Q (Sum.inl (some (J.I s0))) h := by
  exact J.r_iretZ i196_18 rfl
/-! 197 java/lang/StringLatin1.charAt([BI)C -/
theorem i197_0 : J.cd 197 0 = some (.iload 1, 1, 0, 0, 0) := by decide +kernel
theorem i197_1 : J.cd 197 1 = some (.aload 0, 2, 0, 0, 0) := by decide +kernel
theorem i197_2 : J.cd 197 2 = some (.arraylength, 3, 2, 0, 0) := by decide +kernel
theorem i197_3 : J.cd 197 3 = some (.invokestatic 9, 6, 134, 2, 2) := by decide +kernel
theorem i197_6 : J.cd 197 6 = some (.aload 0, 7, 0, 0, 0) := by decide +kernel
theorem i197_7 : J.cd 197 7 = some (.iload 1, 8, 0, 0, 0) := by decide +kernel
theorem i197_8 : J.cd 197 8 = some (.baload, 9, 8, 0, 0) := by decide +kernel
theorem i197_9 : J.cd 197 9 = some (.iconst 255, 12, 0, 0, 0) := by decide +kernel
theorem i197_12 : J.cd 197 12 = some (.iand, 13, 12, 0, 0) := by decide +kernel
theorem i197_13 : J.cd 197 13 = some (.i2c, 14, 13, 0, 0) := by decide +kernel
theorem i197_14 : J.cd 197 14 = some (.ireturn, 15, 0, 0, 5) := by decide +kernel
theorem b197_0 (d : Nat) (h : J.H) (Q : J.O → J.H → Prop) (x0 x1 : Int) : J.WP d 197 0 [J.R x0, J.I x1] [] h Q ↔ (J.ia (J.cl h x0) = true) ∧ (0 < d ∧ J.WP (d - 1) 134 0 [J.I x1, J.I (J.ln h x0)] [] h (J.af J.WP d 197 3 6 [J.R x0, J.I x1] [] Q)) := by
  refine (J.r_iload i197_0 rfl).trans ?_
  refine (J.r_aload i197_1 rfl).trans ?_
  refine (J.r_alen i197_2).trans (and_congr_right fun q0 => ?_)
  exact J.r_stat i197_3 (by decide) (Nat.le_of_ble_eq_true rfl) rfl rfl (Nat.le_of_ble_eq_true rfl)
theorem b197_6 (d : Nat) (h : J.H) (Q : J.O → J.H → Prop) (x0 x1 : Int) : J.WP d 197 6 [J.R x0, J.I x1] [] h Q ↔ (J.isA (J.cl h x0) 3 = true ∧ J.rg x1 (J.ln h x0)) ∧ ((J.cr ((J.and32 (J.gv h x0 x1) 255) % 65536)) ∧ Q (Sum.inl (some (J.I ((J.and32 (J.gv h x0 x1) 255) % 65536)))) h) := by
  refine (J.r_aload i197_6 rfl).trans ?_
  refine (J.r_iload i197_7 rfl).trans ?_
  refine (J.r_baload i197_8).trans (and_congr_right fun q0 => ?_)
  refine (J.r_iconst i197_9).trans ?_
  refine (J.r_iand i197_12).trans ?_
  refine (J.r_i2c i197_13).trans ?_
  exact J.r_iretC i197_14 rfl
/-! 198 java/lang/StringUTF16.charAt([BI)C -/
theorem i198_0 : J.cd 198 0 = some (.iload 1, 1, 0, 0, 0) := by decide +kernel
theorem i198_1 : J.cd 198 1 = some (.aload 0, 2, 0, 0, 0) := by decide +kernel
theorem i198_2 : J.cd 198 2 = some (.invokestatic 67, 5, 133, 2, 2) := by decide +kernel
theorem i198_5 : J.cd 198 5 = some (.aload 0, 6, 0, 0, 0) := by decide +kernel
theorem i198_6 : J.cd 198 6 = some (.iload 1, 7, 0, 0, 0) := by decide +kernel
theorem i198_7 : J.cd 198 7 = some (.invokestatic 71, 10, 126, 2, 2) := by decide +kernel
theorem i198_10 : J.cd 198 10 = some (.ireturn, 11, 0, 0, 5) := by decide +kernel
theorem b198_0 (d : Nat) (h : J.H) (Q : J.O → J.H → Prop) (x0 x1 : Int) : J.WP d 198 0 [J.R x0, J.I x1] [] h Q ↔ 0 < d ∧ J.WP (d - 1) 133 0 [J.I x1, J.R x0] [] h (J.af J.WP d 198 2 5 [J.R x0, J.I x1] [] Q) := by
  refine (J.r_iload i198_0 rfl).trans ?_
  refine (J.r_aload i198_1 rfl).trans ?_
  exact J.r_stat i198_2 (by decide) (Nat.le_of_ble_eq_true rfl) rfl rfl (Nat.le_of_ble_eq_true rfl)
theorem b198_5 (d : Nat) (h : J.H) (Q : J.O → J.H → Prop) (x0 x1 : Int) : J.WP d 198 5 [J.R x0, J.I x1] [] h Q ↔ 0 < d ∧ J.WP (d - 1) 126 0 [J.R x0, J.I x1] [] h (J.af J.WP d 198 7 10 [J.R x0, J.I x1] [] Q) := by
  refine (J.r_aload i198_5 rfl).trans ?_
  refine (J.r_iload i198_6 rfl).trans ?_
  exact J.r_stat i198_7 (by decide) (Nat.le_of_ble_eq_true rfl) rfl rfl (Nat.le_of_ble_eq_true rfl)
theorem b198_10 (d : Nat) (h : J.H) (Q : J.O → J.H → Prop) (x0 x1 s0 : Int) : J.WP d 198 10 [J.R x0, J.I x1] [J.I s0] h Q ↔ (J.cr s0) ∧ Q (Sum.inl (some (J.I s0))) h := by
  exact J.r_iretC i198_10 rfl
end
section
/-! contracts: java.lang.String (all of one byte a sign) -/
set_option maxRecDepth 100000
theorem J.sb23 : J.sb 23 23 = true := by decide
theorem J.sb321 : J.sb 321 23 = true := by decide
def J.By (h : J.H) (v : Int) (bs : List Int) : Prop := (J.cl h v = 204 ∨ J.cl h v = 304) ∧ J.ln h v = bs.length ∧ ∀ j : Nat, j < bs.length → J.gv h v j = bs.getD j 0
/-- a String and its bytes -/
def J.SS (h : J.H) (a : Int) (bs : List Int) : Prop := (J.cl h a = 23 ∨ J.cl h a = 321) ∧ J.gv h a 171 = 0 ∧ J.By h (J.gv h a 170) bs ∧ bs.length < 100000
theorem J.By.ia {h : J.H} {v : Int} {bs : List Int} (x : J.By h v bs) : J.ia (J.cl h v) = true := by rcases x.1 with z | z <;> rw [z] <;> decide
theorem J.By.isA {h : J.H} {v : Int} {bs : List Int} (x : J.By h v bs) : J.isA (J.cl h v) 3 = true := by rcases x.1 with z | z <;> rw [z] <;> decide
theorem J.SS.sb {h : J.H} {v : Int} {bs : List Int} (x : J.SS h v bs) : J.sb (J.cl h v) 23 = true := by rcases x.1 with z | z <;> rw [z] <;> decide
theorem J.SS.ne {h : J.H} {v : Int} {bs : List Int} (x : J.SS h v bs) (hok : J.cl h 0 = 0) : v ≠ 0 := by
  intro z; rw [z] at x; have := x.1; omega
theorem J.getD_ext {a b : List Int} (h1 : a.length = b.length) (h2 : ∀ j : Nat, j < a.length → a.getD j 0 = b.getD j 0) : a = b := by
  refine List.ext_getElem h1 (fun j j1 j2 => ?_)
  have := h2 j j1
  simpa [List.getD_eq_getElem?_getD, j1, j2] using this
theorem J.By.uq {h : J.H} {v : Int} {a b : List Int} (x : J.By h v a) (y : J.By h v b) : a = b := by
  have hl : a.length = b.length := by have := x.2.1.symm.trans y.2.1; omega
  exact J.getD_ext hl (fun j hj => (x.2.2 j hj).symm.trans (y.2.2 j (by omega)))
section
variable {d : Nat} {h : J.H} {Q : J.O → J.H → Prop} {a b : Int} {bs cs : List Int}
theorem J.s_coder (hs : J.SS h a bs) (hc : J.gv h (-1) 0 = 1) (hQ : Q (Sum.inl (some (J.I 0))) h) : J.WP d 95 0 [J.R a] [] h Q := by
  rw [b95_0, hc, if_neg (by decide), b95_14, hs.2.1]
  exact ⟨hs.sb, ⟨by omega, by omega⟩, hQ⟩
theorem J.shr0 (x : Int) : J.shr32 x 0 = x := by unfold J.shr32; exact Int.ediv_one x
theorem J.s_length (hs : J.SS h a bs) (hc : J.gv h (-1) 0 = 1) (hd : 1 ≤ d) (hQ : Q (Sum.inl (some (J.I bs.length))) h) : J.WP d 94 0 [J.R a] [] h Q := by
  rw [b94_0]
  refine ⟨hs.sb, hs.2.2.1.ia, ?_⟩
  have key : J.WP (d - 1) 95 0 [J.R a] [] h (J.af J.WP d 94 6 9 [J.R a] [J.I (J.ln h (J.gv h a 170))] Q) := by
    refine J.s_coder hs hc ?_
    rw [J.af_s, b94_9, J.shr0, hs.2.2.1.2.1]
    exact hQ
  rcases hs.1 with z | z
  · rw [b94_6_c23 _ _ _ _ _ _ z]; exact ⟨by omega, key⟩
  · rw [b94_6_c321 _ _ _ _ _ _ z]; exact ⟨by omega, key⟩
theorem J.s_eqb {v w : Int} (hv : J.By h v bs) (hw : J.By h w cs) (hl : bs.length = cs.length) (hb : bs.length < 100000) : ∀ (n k : Nat), n + k = bs.length → (∀ j : Nat, j < k → bs.getD j 0 = cs.getD j 0) → Q (Sum.inl (some (J.I (if bs = cs then 1 else 0)))) h → J.WP d 143 9 [J.R v, J.R w, J.I k] [] h Q := by
  intro n
  induction n with
  | zero =>
    intro k hk hj hQ
    rw [b143_9, hv.2.1, if_neg (by omega)]
    rw [if_pos (J.getD_ext hl (fun j j1 => hj j (by omega)))] at hQ
    exact ⟨hv.ia, Or.inr rfl, hQ⟩
  | succ n ih =>
    intro k hk hj hQ
    rw [b143_9, hv.2.1, hw.2.1, if_pos (by omega), hv.2.2 k (by omega), hw.2.2 k (by omega)]
    refine ⟨hv.ia, ⟨hv.isA, ⟨by omega, by omega⟩⟩, ⟨hw.isA, ⟨by omega, by omega⟩⟩, ?_⟩
    by_cases e : bs.getD k 0 = cs.getD k 0
    · rw [if_pos e, J.w32_id (by omega) (by omega)]
      have := ih (k + 1) (by omega) (fun j j1 => ?_) hQ
      · simpa using this
      · by_cases e2 : j = k
        · rw [e2]; exact e
        · exact hj j (by omega)
    · rw [if_neg e]
      rw [if_neg (fun z => e (by rw [z]))] at hQ
      exact ⟨Or.inl rfl, hQ⟩
/-- equals between Strings -/
theorem J.s_equals (hs : J.SS h a bs) (ht : J.SS h b cs) (hc : J.gv h (-1) 0 = 1) (h0 : J.cl h 0 = 0) (hd : 1 ≤ d) (hQ : Q (Sum.inl (some (J.I (if bs = cs then 1 else 0)))) h) : J.WP d 142 0 [J.R a, J.R b, J.U] [] h Q := by
  rw [b142_0]
  by_cases e : a = b
  · rw [if_pos e]
    subst e
    rw [if_pos (hs.2.2.1.uq ht.2.2.1)] at hQ
    exact ⟨Or.inr rfl, hQ⟩
  · rw [if_neg e]
    have hb0 := ht.ne h0
    refine ⟨Or.inr (Or.inl ht.sb), ?_⟩
    have e1 : (if b ≠ 0 ∧ J.sb (J.cl h b) 23 = true then (1 : Int) else 0) = 1 := if_pos ⟨hb0, ht.sb⟩
    rw [e1, if_neg (by decide), hc, if_neg (by decide), hs.2.1, ht.2.1, if_pos rfl]
    refine ⟨Or.inr ht.sb, hs.sb, ht.sb, ?_⟩
    rw [b142_36]
    refine ⟨hs.sb, ht.sb, by omega, ?_⟩
    have fin : ∀ v : Int, (v = 0 ∨ v = 1) → Q (Sum.inl (some (J.I v))) h → J.af J.WP d 142 44 47 [J.R a, J.R b, J.R b] [] Q (Sum.inl (some (J.I v))) h := by
      intro v hv q
      rw [J.af_s, b142_47]
      rcases hv with z | z
      · subst z; rw [if_pos rfl, b142_54, b142_55]; exact ⟨Or.inl rfl, q⟩
      · subst z; rw [if_neg (by decide), b142_55]; exact ⟨Or.inr rfl, q⟩
    rw [b143_0, hs.2.2.1.2.1, ht.2.2.1.2.1]
    refine ⟨hs.2.2.1.ia, ht.2.2.1.ia, ?_⟩
    by_cases el : bs.length = cs.length
    · rw [if_pos (by omega)]
      refine J.s_eqb hs.2.2.1 ht.2.2.1 el hs.2.2.2 bs.length 0 (by omega) (fun j hj => by omega) ?_
      refine fin _ ?_ hQ
      by_cases eq : bs = cs
      · rw [if_pos eq]; exact Or.inr rfl
      · rw [if_neg eq]; exact Or.inl rfl
    · rw [if_neg (by omega)]
      rw [if_neg (fun z => el (by rw [z]))] at hQ
      exact ⟨Or.inl rfl, fin 0 (Or.inl rfl) hQ⟩
end
end
section
set_option maxRecDepth 100000
/-! 4 java/lang/StringBuilder.<init>()V -/
theorem i4_0 : J.cd 4 0 = some (.aload 0, 1, 0, 0, 0) := by decide +kernel
theorem i4_1 : J.cd 4 1 = some (.iconst 16, 3, 0, 0, 0) := by decide +kernel
theorem i4_3 : J.cd 4 3 = some (.invokespecial 1, 6, 5, 2, 2) := by decide +kernel
theorem i4_6 : J.cd 4 6 = some (.return_, 7, 6, 0, 0) := by decide +kernel
theorem b4_0 (d : Nat) (h : J.H) (Q : J.O → J.H → Prop) (x0 : Int) : J.WP d 4 0 [J.R x0] [] h Q ↔ J.ik (J.cl h x0) = true ∧ 0 < d ∧ J.WP (d - 1) 5 0 [J.R x0, J.I 16] [] h (J.af J.WP d 4 3 6 [J.R x0] [] Q) := by
  refine (J.r_aload i4_0 rfl).trans ?_
  refine (J.r_iconst i4_1).trans ?_
  exact J.r_spec i4_3 (by decide) ⟨by decide, Nat.le_of_ble_eq_true rfl⟩ rfl rfl (Nat.le_of_ble_eq_true rfl)
theorem b4_6 (d : Nat) (h : J.H) (Q : J.O → J.H → Prop) (x0 : Int) : J.WP d 4 6 [J.R x0] [] h Q ↔ Q (Sum.inl none) h := by
  exact J.r_ret i4_6 rfl
/-! 5 java/lang/AbstractStringBuilder.<init>(I)V -/
theorem i5_0 : J.cd 5 0 = some (.aload 0, 1, 0, 0, 0) := by decide +kernel
theorem i5_1 : J.cd 5 1 = some (.invokespecial 3, 4, 2005, 1, 0) := by decide +kernel
theorem i5_4 : J.cd 5 4 = some (.getstatic 18, 7, 0, 0, 3) := by decide +kernel
theorem i5_7 : J.cd 5 7 = some (.ifCond .eq 18, 10, 25, 0, 0) := by decide +kernel
theorem i5_10 : J.cd 5 10 = some (.aload 0, 11, 0, 0, 0) := by decide +kernel
theorem i5_11 : J.cd 5 11 = some (.iload 1, 12, 0, 0, 0) := by decide +kernel
theorem i5_12 : J.cd 5 12 = some (.newarray .byte, 14, 12, 0, 0) := by decide +kernel
theorem i5_14 : J.cd 5 14 = some (.putfield 15, 17, 7, 86, 2) := by decide +kernel
theorem i5_17 : J.cd 5 17 = some (.aload 0, 18, 0, 0, 0) := by decide +kernel
theorem i5_18 : J.cd 5 18 = some (.iconst 0, 19, 18, 0, 0) := by decide +kernel
theorem i5_19 : J.cd 5 19 = some (.putfield 22, 22, 8, 86, 4) := by decide +kernel
theorem i5_22 : J.cd 5 22 = some (.goto 16, 25, 38, 0, 0) := by decide +kernel
theorem i5_25 : J.cd 5 25 = some (.aload 0, 26, 0, 0, 0) := by decide +kernel
theorem i5_26 : J.cd 5 26 = some (.iload 1, 27, 0, 0, 0) := by decide +kernel
theorem i5_27 : J.cd 5 27 = some (.invokestatic 26, 30, 6, 1, 1) := by decide +kernel
theorem i5_30 : J.cd 5 30 = some (.putfield 15, 33, 7, 86, 2) := by decide +kernel
theorem i5_33 : J.cd 5 33 = some (.aload 0, 34, 0, 0, 0) := by decide +kernel
theorem i5_34 : J.cd 5 34 = some (.iconst 1, 35, 34, 0, 0) := by decide +kernel
theorem i5_35 : J.cd 5 35 = some (.putfield 22, 38, 8, 86, 4) := by decide +kernel
theorem i5_38 : J.cd 5 38 = some (.return_, 39, 38, 0, 0) := by decide +kernel
theorem b5_0 (d : Nat) (h : J.H) (Q : J.O → J.H → Prop) (x0 x1 : Int) : J.WP d 5 0 [J.R x0, J.I x1] [] h Q ↔ (J.ik (J.cl h x0) = true) ∧ (if (J.gv h (-1) 0) = 0 then (0 < d ∧ J.WP (d - 1) 6 0 [J.I x1] [] h (J.af J.WP d 5 27 30 [J.R x0, J.I x1] [J.R x0] Q)) else ((0 ≤ x1 ∧ J.us h + 7 + x1 ≤ J.UM) ∧ ((J.sb (J.cl (J.nw h 204 x1 (7 + x1)) x0) 86 = true ∧ J.cl (J.nw h 204 x1 (7 + x1)) x0 < 300) ∧ ((J.sb (J.cl (J.nw h 204 x1 (7 + x1)) x0) 86 = true ∧ J.cl (J.nw h 204 x1 (7 + x1)) x0 < 300 ∧ J.br 0) ∧ (J.WP d 5 38 [J.R x0, J.I x1] [] (J.sv (J.sv (J.nw h 204 x1 (7 + x1)) x0 7 (J.nx h)) x0 8 0) Q))))) := by
  refine (J.r_aload i5_0 rfl).trans ?_
  refine (J.r_obj i5_1).trans (and_congr_right fun q0 => ?_)
  refine (J.r_getsZ i5_4).trans ?_
  refine (J.r_ifeq i5_7).trans (J.ite2 ?_ ?_)
  · refine (J.r_aload i5_25 rfl).trans ?_
    refine (J.r_iload i5_26 rfl).trans ?_
    exact J.r_stat i5_27 (by decide) (Nat.le_of_ble_eq_true rfl) rfl rfl (Nat.le_of_ble_eq_true rfl)
  · refine (J.r_aload i5_10 rfl).trans ?_
    refine (J.r_iload i5_11 rfl).trans ?_
    refine (J.r_newarray i5_12).trans (and_congr_right fun q1 => ?_)
    refine (J.r_putR i5_14).trans (and_congr_right fun q2 => ?_)
    refine (J.r_aload i5_17 rfl).trans ?_
    refine (J.r_iconst i5_18).trans ?_
    refine (J.r_putB i5_19).trans (and_congr_right fun q3 => ?_)
    refine (J.r_goto i5_22).trans ?_
    exact Iff.rfl
theorem b5_30 (d : Nat) (h : J.H) (Q : J.O → J.H → Prop) (x0 x1 s0 s1 : Int) : J.WP d 5 30 [J.R x0, J.I x1] [J.R s1, J.R s0] h Q ↔ (J.sb (J.cl h s0) 86 = true ∧ J.cl h s0 < 300) ∧ ((J.sb (J.cl h x0) 86 = true ∧ J.cl h x0 < 300 ∧ J.br 1) ∧ (J.WP d 5 38 [J.R x0, J.I x1] [] (J.sv (J.sv h s0 7 s1) x0 8 1) Q)) := by
  refine (J.r_putR i5_30).trans (and_congr_right fun q0 => ?_)
  refine (J.r_aload i5_33 rfl).trans ?_
  refine (J.r_iconst i5_34).trans ?_
  refine (J.r_putB i5_35).trans (and_congr_right fun q1 => ?_)
  exact Iff.rfl
theorem b5_38 (d : Nat) (h : J.H) (Q : J.O → J.H → Prop) (x0 x1 : Int) : J.WP d 5 38 [J.R x0, J.I x1] [] h Q ↔ Q (Sum.inl none) h := by
  exact J.r_ret i5_38 rfl
/-! 6 java/lang/StringUTF16.newBytesFor(I)[B -/
theorem i6_0 : J.cd 6 0 = some (.iload 0, 1, 0, 0, 0) := by decide +kernel
theorem i6_1 : J.cd 6 1 = some (.invokestatic 11, 4, 7, 1, 1) := by decide +kernel
theorem i6_4 : J.cd 6 4 = some (.newarray .byte, 6, 4, 0, 0) := by decide +kernel
theorem i6_6 : J.cd 6 6 = some (.areturn, 7, 6, 0, 0) := by decide +kernel
theorem b6_0 (d : Nat) (h : J.H) (Q : J.O → J.H → Prop) (x0 : Int) : J.WP d 6 0 [J.I x0] [] h Q ↔ 0 < d ∧ J.WP (d - 1) 7 0 [J.I x0] [] h (J.af J.WP d 6 1 4 [J.I x0] [] Q) := by
  refine (J.r_iload i6_0 rfl).trans ?_
  exact J.r_stat i6_1 (by decide) (Nat.le_of_ble_eq_true rfl) rfl rfl (Nat.le_of_ble_eq_true rfl)
theorem b6_4 (d : Nat) (h : J.H) (Q : J.O → J.H → Prop) (x0 s0 : Int) : J.WP d 6 4 [J.I x0] [J.I s0] h Q ↔ (0 ≤ s0 ∧ J.us h + 7 + s0 ≤ J.UM) ∧ (Q (Sum.inl (some (J.R (J.nx h)))) (J.nw h 204 s0 (7 + s0))) := by
  refine (J.r_newarray i6_4).trans (and_congr_right fun q0 => ?_)
  exact J.r_aret i6_6 rfl
/-! 7 java/lang/StringUTF16.newBytesLength(I)I -/
theorem i7_0 : J.cd 7 0 = some (.iload 0, 1, 0, 0, 0) := by decide +kernel
theorem i7_1 : J.cd 7 1 = some (.ifCond .ge 11, 4, 12, 0, 0) := by decide +kernel
theorem i7_12 : J.cd 7 12 = some (.iload 0, 13, 0, 0, 0) := by decide +kernel
theorem i7_13 : J.cd 7 13 = some (.ldc 20, 15, 0, 0, 1073741823) := by decide +kernel
theorem i7_15 : J.cd 7 15 = some (.if_icmp .lt 40, 18, 55, 0, 0) := by decide +kernel
theorem i7_55 : J.cd 7 55 = some (.iload 0, 56, 0, 0, 0) := by decide +kernel
theorem i7_56 : J.cd 7 56 = some (.iconst 1, 57, 56, 0, 0) := by decide +kernel
theorem i7_57 : J.cd 7 57 = some (.ishl, 58, 57, 0, 0) := by decide +kernel
theorem i7_58 : J.cd 7 58 = some (.ireturn, 59, 0, 0, 0) := by decide +kernel
theorem b7_0 (d : Nat) (h : J.H) (Q : J.O → J.H → Prop) (x0 : Int) : J.WP d 7 0 [J.I x0] [] h Q ↔ if x0 < 0 then (J.WP d 7 4 [J.I x0] [] h Q) else (if x0 < 1073741823 then (Q (Sum.inl (some (J.I (J.shl32 x0 1)))) h) else (J.WP d 7 18 [J.I x0] [] h Q)) := by
  refine (J.r_iload i7_0 rfl).trans ?_
  refine (J.r_ifge i7_1).trans (J.ite2 ?_ ?_)
  · exact Iff.rfl
  · refine (J.r_iload i7_12 rfl).trans ?_
    refine (J.r_ldc i7_13).trans ?_
    refine (J.r_iclt i7_15).trans (J.ite2 ?_ ?_)
    · refine (J.r_iload i7_55 rfl).trans ?_
      refine (J.r_iconst i7_56).trans ?_
      refine (J.r_ishl i7_57).trans ?_
      exact J.r_iret i7_58 rfl
    · exact Iff.rfl
/-! 76 java/lang/StringBuilder.setLength(I)V -/
theorem i76_0 : J.cd 76 0 = some (.aload 0, 1, 0, 0, 0) := by decide +kernel
theorem i76_1 : J.cd 76 1 = some (.iload 1, 2, 0, 0, 0) := by decide +kernel
theorem i76_2 : J.cd 76 2 = some (.invokespecial 333, 5, 77, 2, 2) := by decide +kernel
theorem i76_5 : J.cd 76 5 = some (.return_, 6, 5, 0, 0) := by decide +kernel
theorem b76_0 (d : Nat) (h : J.H) (Q : J.O → J.H → Prop) (x0 x1 : Int) : J.WP d 76 0 [J.R x0, J.I x1] [] h Q ↔ J.ik (J.cl h x0) = true ∧ 0 < d ∧ J.WP (d - 1) 77 0 [J.R x0, J.I x1] [] h (J.af J.WP d 76 2 5 [J.R x0, J.I x1] [] Q) := by
  refine (J.r_aload i76_0 rfl).trans ?_
  refine (J.r_iload i76_1 rfl).trans ?_
  exact J.r_spec i76_2 (by decide) ⟨by decide, Nat.le_of_ble_eq_true rfl⟩ rfl rfl (Nat.le_of_ble_eq_true rfl)
theorem b76_5 (d : Nat) (h : J.H) (Q : J.O → J.H → Prop) (x0 x1 : Int) : J.WP d 76 5 [J.R x0, J.I x1] [] h Q ↔ Q (Sum.inl none) h := by
  exact J.r_ret i76_5 rfl
/-! 77 java/lang/AbstractStringBuilder.setLength(I)V -/
theorem i77_0 : J.cd 77 0 = some (.iload 1, 1, 0, 0, 0) := by decide +kernel
theorem i77_1 : J.cd 77 1 = some (.ifCond .ge 12, 4, 13, 0, 0) := by decide +kernel
theorem i77_13 : J.cd 77 13 = some (.aload 0, 14, 0, 0, 0) := by decide +kernel
theorem i77_14 : J.cd 77 14 = some (.iload 1, 15, 0, 0, 0) := by decide +kernel
theorem i77_15 : J.cd 77 15 = some (.invokevirtual 100, 18, 199, 1, 0) := by decide +kernel
theorem i77_18 : J.cd 77 18 = some (.aload 0, 19, 0, 0, 0) := by decide +kernel
theorem i77_19 : J.cd 77 19 = some (.getfield 79, 22, 10, 86, 0) := by decide +kernel
theorem i77_22 : J.cd 77 22 = some (.iload 1, 23, 0, 0, 0) := by decide +kernel
theorem i77_23 : J.cd 77 23 = some (.if_icmp .ge 40, 26, 63, 0, 0) := by decide +kernel
theorem i77_26 : J.cd 77 26 = some (.aload 0, 27, 0, 0, 0) := by decide +kernel
theorem i77_27 : J.cd 77 27 = some (.invokevirtual 83, 30, 201, 0, 0) := by decide +kernel
theorem i77_30 : J.cd 77 30 = some (.ifCond .eq 18, 33, 48, 0, 0) := by decide +kernel
theorem i77_33 : J.cd 77 33 = some (.aload 0, 34, 0, 0, 0) := by decide +kernel
theorem i77_34 : J.cd 77 34 = some (.getfield 15, 37, 7, 86, 2) := by decide +kernel
theorem i77_37 : J.cd 77 37 = some (.aload 0, 38, 0, 0, 0) := by decide +kernel
theorem i77_38 : J.cd 77 38 = some (.getfield 79, 41, 10, 86, 0) := by decide +kernel
theorem i77_41 : J.cd 77 41 = some (.iload 1, 42, 0, 0, 0) := by decide +kernel
theorem i77_42 : J.cd 77 42 = some (.invokestatic 133, 45, 82, 3, 3) := by decide +kernel
theorem i77_45 : J.cd 77 45 = some (.goto 31, 48, 76, 0, 0) := by decide +kernel
theorem i77_48 : J.cd 77 48 = some (.aload 0, 49, 0, 0, 0) := by decide +kernel
theorem i77_49 : J.cd 77 49 = some (.getfield 15, 52, 7, 86, 2) := by decide +kernel
theorem i77_52 : J.cd 77 52 = some (.aload 0, 53, 0, 0, 0) := by decide +kernel
theorem i77_53 : J.cd 77 53 = some (.getfield 79, 56, 10, 86, 0) := by decide +kernel
theorem i77_56 : J.cd 77 56 = some (.iload 1, 57, 0, 0, 0) := by decide +kernel
theorem i77_57 : J.cd 77 57 = some (.invokestatic 137, 60, 128, 3, 3) := by decide +kernel
theorem i77_60 : J.cd 77 60 = some (.goto 16, 63, 76, 0, 0) := by decide +kernel
theorem i77_63 : J.cd 77 63 = some (.aload 0, 64, 0, 0, 0) := by decide +kernel
theorem i77_64 : J.cd 77 64 = some (.getfield 79, 67, 10, 86, 0) := by decide +kernel
theorem i77_67 : J.cd 77 67 = some (.iload 1, 68, 0, 0, 0) := by decide +kernel
theorem i77_68 : J.cd 77 68 = some (.if_icmp .le 8, 71, 76, 0, 0) := by decide +kernel
theorem i77_71 : J.cd 77 71 = some (.aload 0, 72, 0, 0, 0) := by decide +kernel
theorem i77_72 : J.cd 77 72 = some (.iconst 1, 73, 72, 0, 0) := by decide +kernel
theorem i77_73 : J.cd 77 73 = some (.putfield 73, 76, 9, 86, 3) := by decide +kernel
theorem i77_76 : J.cd 77 76 = some (.aload 0, 77, 0, 0, 0) := by decide +kernel
theorem i77_77 : J.cd 77 77 = some (.iload 1, 78, 0, 0, 0) := by decide +kernel
theorem i77_78 : J.cd 77 78 = some (.putfield 79, 81, 10, 86, 0) := by decide +kernel
theorem i77_81 : J.cd 77 81 = some (.return_, 82, 81, 0, 0) := by decide +kernel
theorem b77_0 (d : Nat) (h : J.H) (Q : J.O → J.H → Prop) (x0 x1 : Int) : J.WP d 77 0 [J.R x0, J.I x1] [] h Q ↔ if x1 < 0 then (J.WP d 77 4 [J.R x0, J.I x1] [] h Q) else (J.cl h x0 = 4 ∧ 0 < d ∧ J.WP (d - 1) 78 0 [J.R x0, J.I x1, J.U] [] h (J.af J.WP d 77 15 18 [J.R x0, J.I x1] [] Q)) := by
  refine (J.r_iload i77_0 rfl).trans ?_
  refine (J.r_ifge i77_1).trans (J.ite2 ?_ ?_)
  · exact Iff.rfl
  · refine (J.r_aload i77_13 rfl).trans ?_
    refine (J.r_iload i77_14 rfl).trans ?_
    exact J.r_virt1 (k2 := 78) (m := 3) 4 i77_15 rfl (by decide +kernel) (by decide) rfl (Nat.le_of_ble_eq_true rfl)
theorem b77_18 (d : Nat) (h : J.H) (Q : J.O → J.H → Prop) (x0 x1 : Int) : J.WP d 77 18 [J.R x0, J.I x1] [] h Q ↔ (J.sb (J.cl h x0) 86 = true) ∧ (if (J.gv h x0 10) < x1 then (J.cl h x0 = 4 ∧ 0 < d ∧ J.WP (d - 1) 81 0 [J.R x0] [] h (J.af J.WP d 77 27 30 [J.R x0, J.I x1] [] Q)) else (if (J.gv h x0 10) ≤ x1 then (J.WP d 77 76 [J.R x0, J.I x1] [] h Q) else ((J.sb (J.cl h x0) 86 = true ∧ J.cl h x0 < 300 ∧ J.zo 1) ∧ (J.WP d 77 76 [J.R x0, J.I x1] [] (J.sv h x0 9 1) Q)))) := by
  refine (J.r_aload i77_18 rfl).trans ?_
  refine (J.r_getI i77_19).trans (and_congr_right fun q0 => ?_)
  refine (J.r_iload i77_22 rfl).trans ?_
  refine (J.r_icge i77_23).trans (J.ite2 ?_ ?_)
  · refine (J.r_aload i77_26 rfl).trans ?_
    exact J.r_virt1 (k2 := 81) (m := 1) 4 i77_27 rfl (by decide +kernel) (by decide) rfl (Nat.le_of_ble_eq_true rfl)
  · refine (J.r_aload i77_63 rfl).trans ?_
    refine (J.r_getI i77_64).trans ((J.tru q0).trans ?_)
    refine (J.r_iload i77_67 rfl).trans ?_
    refine (J.r_icle i77_68).trans (J.ite2 ?_ ?_)
    · exact Iff.rfl
    · refine (J.r_aload i77_71 rfl).trans ?_
      refine (J.r_iconst i77_72).trans ?_
      refine (J.r_putZ i77_73).trans (and_congr_right fun q1 => ?_)
      exact Iff.rfl
theorem b77_30 (d : Nat) (h : J.H) (Q : J.O → J.H → Prop) (x0 x1 s0 : Int) : J.WP d 77 30 [J.R x0, J.I x1] [J.I s0] h Q ↔ if s0 = 0 then ((J.sb (J.cl h x0) 86 = true) ∧ (0 < d ∧ J.WP (d - 1) 128 0 [J.R (J.gv h x0 7), J.I (J.gv h x0 10), J.I x1] [] h (J.af J.WP d 77 57 60 [J.R x0, J.I x1] [] Q))) else ((J.sb (J.cl h x0) 86 = true) ∧ (0 < d ∧ J.WP (d - 1) 82 0 [J.R (J.gv h x0 7), J.I (J.gv h x0 10), J.I x1] [] h (J.af J.WP d 77 42 45 [J.R x0, J.I x1] [] Q))) := by
  refine (J.r_ifeq i77_30).trans (J.ite2 ?_ ?_)
  · refine (J.r_aload i77_48 rfl).trans ?_
    refine (J.r_getR i77_49).trans (and_congr_right fun q0 => ?_)
    refine (J.r_aload i77_52 rfl).trans ?_
    refine (J.r_getI i77_53).trans ((J.tru q0).trans ?_)
    refine (J.r_iload i77_56 rfl).trans ?_
    exact J.r_stat i77_57 (by decide) (Nat.le_of_ble_eq_true rfl) rfl rfl (Nat.le_of_ble_eq_true rfl)
  · refine (J.r_aload i77_33 rfl).trans ?_
    refine (J.r_getR i77_34).trans (and_congr_right fun q0 => ?_)
    refine (J.r_aload i77_37 rfl).trans ?_
    refine (J.r_getI i77_38).trans ((J.tru q0).trans ?_)
    refine (J.r_iload i77_41 rfl).trans ?_
    exact J.r_stat i77_42 (by decide) (Nat.le_of_ble_eq_true rfl) rfl rfl (Nat.le_of_ble_eq_true rfl)
theorem b77_45 (d : Nat) (h : J.H) (Q : J.O → J.H → Prop) (x0 x1 : Int) : J.WP d 77 45 [J.R x0, J.I x1] [] h Q ↔ J.WP d 77 76 [J.R x0, J.I x1] [] h Q := by
  refine (J.r_goto i77_45).trans ?_
  exact Iff.rfl
theorem b77_60 (d : Nat) (h : J.H) (Q : J.O → J.H → Prop) (x0 x1 : Int) : J.WP d 77 60 [J.R x0, J.I x1] [] h Q ↔ J.WP d 77 76 [J.R x0, J.I x1] [] h Q := by
  refine (J.r_goto i77_60).trans ?_
  exact Iff.rfl
theorem b77_76 (d : Nat) (h : J.H) (Q : J.O → J.H → Prop) (x0 x1 : Int) : J.WP d 77 76 [J.R x0, J.I x1] [] h Q ↔ (J.sb (J.cl h x0) 86 = true ∧ J.cl h x0 < 300) ∧ (Q (Sum.inl none) (J.sv h x0 10 x1)) := by
  refine (J.r_aload i77_76 rfl).trans ?_
  refine (J.r_iload i77_77 rfl).trans ?_
  refine (J.r_putI i77_78).trans (and_congr_right fun q0 => ?_)
  exact J.r_ret i77_81 rfl
/-! 78 java/lang/AbstractStringBuilder.ensureCapacityInternal(I)V -/
theorem i78_0 : J.cd 78 0 = some (.aload 0, 1, 0, 0, 0) := by decide +kernel
theorem i78_1 : J.cd 78 1 = some (.getfield 15, 4, 7, 86, 2) := by decide +kernel
theorem i78_4 : J.cd 78 4 = some (.arraylength, 5, 4, 0, 0) := by decide +kernel
theorem i78_5 : J.cd 78 5 = some (.aload 0, 6, 0, 0, 0) := by decide +kernel
theorem i78_6 : J.cd 78 6 = some (.getfield 22, 9, 8, 86, 4) := by decide +kernel
theorem i78_9 : J.cd 78 9 = some (.ishr, 10, 9, 0, 0) := by decide +kernel
theorem i78_10 : J.cd 78 10 = some (.istore 2, 11, 0, 0, 0) := by decide +kernel
theorem i78_11 : J.cd 78 11 = some (.iload 1, 12, 0, 0, 0) := by decide +kernel
theorem i78_12 : J.cd 78 12 = some (.iload 2, 13, 0, 0, 0) := by decide +kernel
theorem i78_13 : J.cd 78 13 = some (.isub, 14, 13, 0, 0) := by decide +kernel
theorem i78_14 : J.cd 78 14 = some (.ifCond .le 24, 17, 38, 0, 0) := by decide +kernel
theorem i78_17 : J.cd 78 17 = some (.aload 0, 18, 0, 0, 0) := by decide +kernel
theorem i78_18 : J.cd 78 18 = some (.aload 0, 19, 0, 0, 0) := by decide +kernel
theorem i78_19 : J.cd 78 19 = some (.getfield 15, 22, 7, 86, 2) := by decide +kernel
theorem i78_22 : J.cd 78 22 = some (.aload 0, 23, 0, 0, 0) := by decide +kernel
theorem i78_23 : J.cd 78 23 = some (.iload 1, 24, 0, 0, 0) := by decide +kernel
theorem i78_24 : J.cd 78 24 = some (.invokevirtual 104, 27, 200, 1, 0) := by decide +kernel
theorem i78_27 : J.cd 78 27 = some (.aload 0, 28, 0, 0, 0) := by decide +kernel
theorem i78_28 : J.cd 78 28 = some (.getfield 22, 31, 8, 86, 4) := by decide +kernel
theorem i78_31 : J.cd 78 31 = some (.ishl, 32, 31, 0, 0) := by decide +kernel
theorem i78_32 : J.cd 78 32 = some (.invokestatic 108, 35, 80, 2, 3) := by decide +kernel
theorem i78_35 : J.cd 78 35 = some (.putfield 15, 38, 7, 86, 2) := by decide +kernel
theorem i78_38 : J.cd 78 38 = some (.return_, 39, 38, 0, 0) := by decide +kernel
theorem b78_0 (d : Nat) (h : J.H) (Q : J.O → J.H → Prop) (x0 x1 : Int) : J.WP d 78 0 [J.R x0, J.I x1, J.U] [] h Q ↔ (J.sb (J.cl h x0) 86 = true) ∧ ((J.ia (J.cl h (J.gv h x0 7)) = true) ∧ (if (J.w32 (x1 - (J.shr32 (J.ln h (J.gv h x0 7)) (J.gv h x0 8)))) ≤ 0 then (J.WP d 78 38 [J.R x0, J.I x1, J.I (J.shr32 (J.ln h (J.gv h x0 7)) (J.gv h x0 8))] [] h Q) else (J.cl h x0 = 4 ∧ 0 < d ∧ J.WP (d - 1) 79 0 [J.R x0, J.I x1, J.U, J.U, J.U, J.U] [] h (J.af J.WP d 78 24 27 [J.R x0, J.I x1, J.I (J.shr32 (J.ln h (J.gv h x0 7)) (J.gv h x0 8))] [J.R (J.gv h x0 7), J.R x0] Q)))) := by
  refine (J.r_aload i78_0 rfl).trans ?_
  refine (J.r_getR i78_1).trans (and_congr_right fun q0 => ?_)
  refine (J.r_alen i78_4).trans (and_congr_right fun q1 => ?_)
  refine (J.r_aload i78_5 rfl).trans ?_
  refine (J.r_getB i78_6).trans ((J.tru q0).trans ?_)
  refine (J.r_ishr i78_9).trans ?_
  refine (J.r_istore i78_10 (Nat.le_of_ble_eq_true rfl) rfl).trans ?_
  refine (J.r_iload i78_11 rfl).trans ?_
  refine (J.r_iload i78_12 rfl).trans ?_
  refine (J.r_isub i78_13).trans ?_
  refine (J.r_ifle i78_14).trans (J.ite2 ?_ ?_)
  · exact Iff.rfl
  · refine (J.r_aload i78_17 rfl).trans ?_
    refine (J.r_aload i78_18 rfl).trans ?_
    refine (J.r_getR i78_19).trans ((J.tru q0).trans ?_)
    refine (J.r_aload i78_22 rfl).trans ?_
    refine (J.r_iload i78_23 rfl).trans ?_
    exact J.r_virt1 (k2 := 79) (m := 6) 4 i78_24 rfl (by decide +kernel) (by decide) rfl (Nat.le_of_ble_eq_true rfl)
theorem b78_27 (d : Nat) (h : J.H) (Q : J.O → J.H → Prop) (x0 x1 x2 s0 s1 s2 : Int) : J.WP d 78 27 [J.R x0, J.I x1, J.I x2] [J.I s2, J.R s1, J.R s0] h Q ↔ (J.sb (J.cl h x0) 86 = true) ∧ (0 < d ∧ J.WP (d - 1) 80 0 [J.R s1, J.I (J.shl32 s2 (J.gv h x0 8)), J.U] [] h (J.af J.WP d 78 32 35 [J.R x0, J.I x1, J.I x2] [J.R s0] Q)) := by
  refine (J.r_aload i78_27 rfl).trans ?_
  refine (J.r_getB i78_28).trans (and_congr_right fun q0 => ?_)
  refine (J.r_ishl i78_31).trans ?_
  exact J.r_stat i78_32 (by decide) (Nat.le_of_ble_eq_true rfl) rfl rfl (Nat.le_of_ble_eq_true rfl)
theorem b78_35 (d : Nat) (h : J.H) (Q : J.O → J.H → Prop) (x0 x1 x2 s0 s1 : Int) : J.WP d 78 35 [J.R x0, J.I x1, J.I x2] [J.R s1, J.R s0] h Q ↔ (J.sb (J.cl h s0) 86 = true ∧ J.cl h s0 < 300) ∧ (J.WP d 78 38 [J.R x0, J.I x1, J.I x2] [] (J.sv h s0 7 s1) Q) := by
  refine (J.r_putR i78_35).trans (and_congr_right fun q0 => ?_)
  exact Iff.rfl
theorem b78_38 (d : Nat) (h : J.H) (Q : J.O → J.H → Prop) (x0 x1 x2 : Int) : J.WP d 78 38 [J.R x0, J.I x1, J.I x2] [] h Q ↔ Q (Sum.inl none) h := by
  exact J.r_ret i78_38 rfl
/-! 79 java/lang/AbstractStringBuilder.newCapacity(I)I -/
theorem i79_0 : J.cd 79 0 = some (.aload 0, 1, 0, 0, 0) := by decide +kernel
theorem i79_1 : J.cd 79 1 = some (.getfield 15, 4, 7, 86, 2) := by decide +kernel
theorem i79_4 : J.cd 79 4 = some (.arraylength, 5, 4, 0, 0) := by decide +kernel
theorem i79_5 : J.cd 79 5 = some (.istore 2, 6, 0, 0, 0) := by decide +kernel
theorem i79_6 : J.cd 79 6 = some (.iload 1, 7, 0, 0, 0) := by decide +kernel
theorem i79_7 : J.cd 79 7 = some (.aload 0, 8, 0, 0, 0) := by decide +kernel
theorem i79_8 : J.cd 79 8 = some (.getfield 22, 11, 8, 86, 4) := by decide +kernel
theorem i79_11 : J.cd 79 11 = some (.ishl, 12, 11, 0, 0) := by decide +kernel
theorem i79_12 : J.cd 79 12 = some (.istore 3, 13, 0, 0, 0) := by decide +kernel
theorem i79_13 : J.cd 79 13 = some (.iload 3, 14, 0, 0, 0) := by decide +kernel
theorem i79_14 : J.cd 79 14 = some (.iload 2, 15, 0, 0, 0) := by decide +kernel
theorem i79_15 : J.cd 79 15 = some (.isub, 16, 15, 0, 0) := by decide +kernel
theorem i79_16 : J.cd 79 16 = some (.istore 4, 18, 16, 0, 0) := by decide +kernel
theorem i79_18 : J.cd 79 18 = some (.iload 2, 19, 0, 0, 0) := by decide +kernel
theorem i79_19 : J.cd 79 19 = some (.iload 4, 21, 19, 0, 0) := by decide +kernel
theorem i79_21 : J.cd 79 21 = some (.iload 2, 22, 0, 0, 0) := by decide +kernel
theorem i79_22 : J.cd 79 22 = some (.iconst 2, 23, 22, 0, 0) := by decide +kernel
theorem i79_23 : J.cd 79 23 = some (.aload 0, 24, 0, 0, 0) := by decide +kernel
theorem i79_24 : J.cd 79 24 = some (.getfield 22, 27, 8, 86, 4) := by decide +kernel
theorem i79_27 : J.cd 79 27 = some (.ishl, 28, 27, 0, 0) := by decide +kernel
theorem i79_28 : J.cd 79 28 = some (.iadd, 29, 28, 0, 0) := by decide +kernel
theorem i79_29 : J.cd 79 29 = some (.invokestatic 114, 32, 21, 3, 4) := by decide +kernel
theorem i79_32 : J.cd 79 32 = some (.istore 5, 34, 32, 0, 0) := by decide +kernel
theorem i79_34 : J.cd 79 34 = some (.iload 5, 36, 34, 0, 0) := by decide +kernel
theorem i79_36 : J.cd 79 36 = some (.ldc 39, 38, 0, 0, 2147483647) := by decide +kernel
theorem i79_38 : J.cd 79 38 = some (.if_icmp .ne 13, 41, 51, 0, 0) := by decide +kernel
theorem i79_51 : J.cd 79 51 = some (.iload 5, 53, 51, 0, 0) := by decide +kernel
theorem i79_53 : J.cd 79 53 = some (.aload 0, 54, 0, 0, 0) := by decide +kernel
theorem i79_54 : J.cd 79 54 = some (.getfield 22, 57, 8, 86, 4) := by decide +kernel
theorem i79_57 : J.cd 79 57 = some (.ishr, 58, 57, 0, 0) := by decide +kernel
theorem i79_58 : J.cd 79 58 = some (.ireturn, 59, 0, 0, 0) := by decide +kernel
theorem b79_0 (d : Nat) (h : J.H) (Q : J.O → J.H → Prop) (x0 x1 : Int) : J.WP d 79 0 [J.R x0, J.I x1, J.U, J.U, J.U, J.U] [] h Q ↔ (J.sb (J.cl h x0) 86 = true) ∧ ((J.ia (J.cl h (J.gv h x0 7)) = true) ∧ (0 < d ∧ J.WP (d - 1) 21 0 [J.I (J.ln h (J.gv h x0 7)), J.I (J.w32 ((J.shl32 x1 (J.gv h x0 8)) - (J.ln h (J.gv h x0 7)))), J.I (J.w32 ((J.ln h (J.gv h x0 7)) + (J.shl32 2 (J.gv h x0 8)))), J.U] [] h (J.af J.WP d 79 29 32 [J.R x0, J.I x1, J.I (J.ln h (J.gv h x0 7)), J.I (J.shl32 x1 (J.gv h x0 8)), J.I (J.w32 ((J.shl32 x1 (J.gv h x0 8)) - (J.ln h (J.gv h x0 7)))), J.U] [] Q))) := by
  refine (J.r_aload i79_0 rfl).trans ?_
  refine (J.r_getR i79_1).trans (and_congr_right fun q0 => ?_)
  refine (J.r_alen i79_4).trans (and_congr_right fun q1 => ?_)
  refine (J.r_istore i79_5 (Nat.le_of_ble_eq_true rfl) rfl).trans ?_
  refine (J.r_iload i79_6 rfl).trans ?_
  refine (J.r_aload i79_7 rfl).trans ?_
  refine (J.r_getB i79_8).trans ((J.tru q0).trans ?_)
  refine (J.r_ishl i79_11).trans ?_
  refine (J.r_istore i79_12 (Nat.le_of_ble_eq_true rfl) rfl).trans ?_
  refine (J.r_iload i79_13 rfl).trans ?_
  refine (J.r_iload i79_14 rfl).trans ?_
  refine (J.r_isub i79_15).trans ?_
  refine (J.r_istore i79_16 (Nat.le_of_ble_eq_true rfl) rfl).trans ?_
  refine (J.r_iload i79_18 rfl).trans ?_
  refine (J.r_iload i79_19 rfl).trans ?_
  refine (J.r_iload i79_21 rfl).trans ?_
  refine (J.r_iconst i79_22).trans ?_
  refine (J.r_aload i79_23 rfl).trans ?_
  refine (J.r_getB i79_24).trans ((J.tru q0).trans ?_)
  refine (J.r_ishl i79_27).trans ?_
  refine (J.r_iadd i79_28).trans ?_
  exact J.r_stat i79_29 (by decide) (Nat.le_of_ble_eq_true rfl) rfl rfl (Nat.le_of_ble_eq_true rfl)
theorem b79_32 (d : Nat) (h : J.H) (Q : J.O → J.H → Prop) (x0 x1 x2 x3 x4 s0 : Int) : J.WP d 79 32 [J.R x0, J.I x1, J.I x2, J.I x3, J.I x4, J.U] [J.I s0] h Q ↔ if s0 = 2147483647 then (J.WP d 79 41 [J.R x0, J.I x1, J.I x2, J.I x3, J.I x4, J.I s0] [] h Q) else ((J.sb (J.cl h x0) 86 = true) ∧ (Q (Sum.inl (some (J.I (J.shr32 s0 (J.gv h x0 8))))) h)) := by
  refine (J.r_istore i79_32 (Nat.le_of_ble_eq_true rfl) rfl).trans ?_
  refine (J.r_iload i79_34 rfl).trans ?_
  refine (J.r_ldc i79_36).trans ?_
  refine (J.r_icne i79_38).trans (J.ite2 ?_ ?_)
  · exact Iff.rfl
  · refine (J.r_iload i79_51 rfl).trans ?_
    refine (J.r_aload i79_53 rfl).trans ?_
    refine (J.r_getB i79_54).trans (and_congr_right fun q0 => ?_)
    refine (J.r_ishr i79_57).trans ?_
    exact J.r_iret i79_58 rfl
/-! 80 java/util/Arrays.copyOf([BI)[B -/
theorem i80_0 : J.cd 80 0 = some (.iload 1, 1, 0, 0, 0) := by decide +kernel
theorem i80_1 : J.cd 80 1 = some (.aload 0, 2, 0, 0, 0) := by decide +kernel
theorem i80_2 : J.cd 80 2 = some (.arraylength, 3, 2, 0, 0) := by decide +kernel
theorem i80_3 : J.cd 80 3 = some (.if_icmp .ne 11, 6, 14, 0, 0) := by decide +kernel
theorem i80_6 : J.cd 80 6 = some (.aload 0, 7, 0, 0, 0) := by decide +kernel
theorem i80_7 : J.cd 80 7 = some (.invokevirtual 310, 10, 9004, 0, 0) := by decide +kernel
theorem i80_10 : J.cd 80 10 = some (.checkcast 311, 13, 204, 0, 0) := by decide +kernel
theorem i80_13 : J.cd 80 13 = some (.areturn, 14, 13, 0, 0) := by decide +kernel
theorem i80_14 : J.cd 80 14 = some (.iload 1, 15, 0, 0, 0) := by decide +kernel
theorem i80_15 : J.cd 80 15 = some (.newarray .byte, 17, 15, 0, 0) := by decide +kernel
theorem i80_17 : J.cd 80 17 = some (.astore 2, 18, 0, 0, 0) := by decide +kernel
theorem i80_18 : J.cd 80 18 = some (.aload 0, 19, 0, 0, 0) := by decide +kernel
theorem i80_19 : J.cd 80 19 = some (.iconst 0, 20, 19, 0, 0) := by decide +kernel
theorem i80_20 : J.cd 80 20 = some (.aload 2, 21, 0, 0, 0) := by decide +kernel
theorem i80_21 : J.cd 80 21 = some (.iconst 0, 22, 21, 0, 0) := by decide +kernel
theorem i80_22 : J.cd 80 22 = some (.aload 0, 23, 0, 0, 0) := by decide +kernel
theorem i80_23 : J.cd 80 23 = some (.arraylength, 24, 23, 0, 0) := by decide +kernel
theorem i80_24 : J.cd 80 24 = some (.iload 1, 25, 0, 0, 0) := by decide +kernel
theorem i80_25 : J.cd 80 25 = some (.invokestatic 304, 28, 26, 2, 2) := by decide +kernel
theorem i80_28 : J.cd 80 28 = some (.invokestatic 150, 31, 2000, 5, 0) := by decide +kernel
theorem i80_31 : J.cd 80 31 = some (.aload 2, 32, 0, 0, 0) := by decide +kernel
theorem i80_32 : J.cd 80 32 = some (.areturn, 33, 32, 0, 0) := by decide +kernel
theorem b80_0 (d : Nat) (h : J.H) (Q : J.O → J.H → Prop) (x0 x1 : Int) : J.WP d 80 0 [J.R x0, J.I x1, J.U] [] h Q ↔ (J.ia (J.cl h x0) = true) ∧ (if x1 = (J.ln h x0) then ((J.cl h x0 = 204 ∧ J.us h + 7 + J.ln h x0 ≤ J.UM) ∧ ((J.no (J.nx h) ∨ J.sb (J.cl (J.nw h 204 (J.ln h x0) (7 + J.ln h x0)) (J.nx h)) 204 = true) ∧ (Q (Sum.inl (some (J.R (J.nx h)))) (J.cpy (J.nw h 204 (J.ln h x0) (7 + J.ln h x0)) x0 0 (J.nx h) 0 (J.ln h x0))))) else ((0 ≤ x1 ∧ J.us h + 7 + x1 ≤ J.UM) ∧ ((J.ia (J.cl (J.nw h 204 x1 (7 + x1)) x0) = true) ∧ (0 < d ∧ J.WP (d - 1) 26 0 [J.I (J.ln (J.nw h 204 x1 (7 + x1)) x0), J.I x1] [] (J.nw h 204 x1 (7 + x1)) (J.af J.WP d 80 25 28 [J.R x0, J.I x1, J.R (J.nx h)] [J.I 0, J.R (J.nx h), J.I 0, J.R x0] Q))))) := by
  refine (J.r_iload i80_0 rfl).trans ?_
  refine (J.r_aload i80_1 rfl).trans ?_
  refine (J.r_alen i80_2).trans (and_congr_right fun q0 => ?_)
  refine (J.r_icne i80_3).trans (J.ite2 ?_ ?_)
  · refine (J.r_aload i80_6 rfl).trans ?_
    refine (J.r_cloneB i80_7).trans (and_congr_right fun q1 => ?_)
    refine (J.r_cast i80_10).trans (and_congr_right fun q2 => ?_)
    exact J.r_aret i80_13 rfl
  · refine (J.r_iload i80_14 rfl).trans ?_
    refine (J.r_newarray i80_15).trans (and_congr_right fun q1 => ?_)
    refine (J.r_astore i80_17 (Nat.le_of_ble_eq_true rfl) rfl).trans ?_
    refine (J.r_aload i80_18 rfl).trans ?_
    refine (J.r_iconst i80_19).trans ?_
    refine (J.r_aload i80_20 rfl).trans ?_
    refine (J.r_iconst i80_21).trans ?_
    refine (J.r_aload i80_22 rfl).trans ?_
    refine (J.r_alen i80_23).trans (and_congr_right fun q2 => ?_)
    refine (J.r_iload i80_24 rfl).trans ?_
    exact J.r_stat i80_25 (by decide) (Nat.le_of_ble_eq_true rfl) rfl rfl (Nat.le_of_ble_eq_true rfl)
theorem b80_28 (d : Nat) (h : J.H) (Q : J.O → J.H → Prop) (x0 x1 x2 s0 s1 s2 s3 s4 : Int) : J.WP d 80 28 [J.R x0, J.I x1, J.R x2] [J.I s4, J.I s3, J.R s2, J.I s1, J.R s0] h Q ↔ ((0 : Int) ≤ s4 ∧ (0 : Int) ≤ s1 ∧ (0 : Int) ≤ s3 ∧ s1 + s4 ≤ J.ln h s0 ∧ s3 + s4 ≤ J.ln h s2 ∧ J.cl h s2 < 300 ∧ ((J.isA (J.cl h s0) 3 = true ∧ J.cl h s2 = 204 ∧ J.cl h s0 ≠ 203) ∨ (J.isA (J.cl h s0) 2 = true ∧ J.cl h s2 = 214 ∧ J.vld h s0 s1 s4 = true))) ∧ (Q (Sum.inl (some (J.R x2))) (J.cpy h s0 s1 s2 s3 s4)) := by
  refine (J.r_acopy i80_28).trans (and_congr_right fun q0 => ?_)
  refine (J.r_aload i80_31 rfl).trans ?_
  exact J.r_aret i80_32 rfl
/-! 81 java/lang/AbstractStringBuilder.isLatin1()Z -/
theorem i81_0 : J.cd 81 0 = some (.getstatic 18, 3, 0, 0, 3) := by decide +kernel
theorem i81_3 : J.cd 81 3 = some (.ifCond .eq 14, 6, 17, 0, 0) := by decide +kernel
theorem i81_6 : J.cd 81 6 = some (.aload 0, 7, 0, 0, 0) := by decide +kernel
theorem i81_7 : J.cd 81 7 = some (.getfield 22, 10, 8, 86, 4) := by decide +kernel
theorem i81_10 : J.cd 81 10 = some (.ifCond .ne 7, 13, 17, 0, 0) := by decide +kernel
theorem i81_13 : J.cd 81 13 = some (.iconst 1, 14, 13, 0, 0) := by decide +kernel
theorem i81_14 : J.cd 81 14 = some (.goto 4, 17, 18, 0, 0) := by decide +kernel
theorem i81_17 : J.cd 81 17 = some (.iconst 0, 18, 17, 0, 0) := by decide +kernel
theorem i81_18 : J.cd 81 18 = some (.ireturn, 19, 0, 0, 3) := by decide +kernel
theorem b81_0 (d : Nat) (h : J.H) (Q : J.O → J.H → Prop) (x0 : Int) : J.WP d 81 0 [J.R x0] [] h Q ↔ if (J.gv h (-1) 0) = 0 then (J.WP d 81 17 [J.R x0] [] h Q) else ((J.sb (J.cl h x0) 86 = true) ∧ (if (J.gv h x0 8) = 0 then (J.WP d 81 18 [J.R x0] [J.I 1] h Q) else (J.WP d 81 17 [J.R x0] [] h Q))) := by
  refine (J.r_getsZ i81_0).trans ?_
  refine (J.r_ifeq i81_3).trans (J.ite2 ?_ ?_)
  · exact Iff.rfl
  · refine (J.r_aload i81_6 rfl).trans ?_
    refine (J.r_getB i81_7).trans (and_congr_right fun q0 => ?_)
    refine (J.r_ifne i81_10).trans (J.ite2 ?_ ?_)
    · refine (J.r_iconst i81_13).trans ?_
      refine (J.r_goto i81_14).trans ?_
      exact Iff.rfl
    · exact Iff.rfl
theorem b81_17 (d : Nat) (h : J.H) (Q : J.O → J.H → Prop) (x0 : Int) : J.WP d 81 17 [J.R x0] [] h Q ↔ J.WP d 81 18 [J.R x0] [J.I 0] h Q := by
  refine (J.r_iconst i81_17).trans ?_
  exact Iff.rfl
theorem b81_18 (d : Nat) (h : J.H) (Q : J.O → J.H → Prop) (x0 s0 : Int) : J.WP d 81 18 [J.R x0] [J.I s0] h Q ↔ (J.zo s0) ∧ Q (Sum.inl (some (J.I s0))) h := by
  exact J.r_iretZ i81_18 rfl
/-! 82 java/lang/StringLatin1.fillNull([BII)V -/
theorem i82_0 : J.cd 82 0 = some (.aload 0, 1, 0, 0, 0) := by decide +kernel
theorem i82_1 : J.cd 82 1 = some (.iload 1, 2, 0, 0, 0) := by decide +kernel
theorem i82_2 : J.cd 82 2 = some (.iload 2, 3, 0, 0, 0) := by decide +kernel
theorem i82_3 : J.cd 82 3 = some (.iconst 0, 4, 3, 0, 0) := by decide +kernel
theorem i82_4 : J.cd 82 4 = some (.invokestatic 236, 7, 83, 4, 5) := by decide +kernel
theorem i82_7 : J.cd 82 7 = some (.return_, 8, 7, 0, 0) := by decide +kernel
theorem b82_0 (d : Nat) (h : J.H) (Q : J.O → J.H → Prop) (x0 x1 x2 : Int) : J.WP d 82 0 [J.R x0, J.I x1, J.I x2] [] h Q ↔ 0 < d ∧ J.WP (d - 1) 83 0 [J.R x0, J.I x1, J.I x2, J.I 0, J.U] [] h (J.af J.WP d 82 4 7 [J.R x0, J.I x1, J.I x2] [] Q) := by
  refine (J.r_aload i82_0 rfl).trans ?_
  refine (J.r_iload i82_1 rfl).trans ?_
  refine (J.r_iload i82_2 rfl).trans ?_
  refine (J.r_iconst i82_3).trans ?_
  exact J.r_stat i82_4 (by decide) (Nat.le_of_ble_eq_true rfl) rfl rfl (Nat.le_of_ble_eq_true rfl)
theorem b82_7 (d : Nat) (h : J.H) (Q : J.O → J.H → Prop) (x0 x1 x2 : Int) : J.WP d 82 7 [J.R x0, J.I x1, J.I x2] [] h Q ↔ Q (Sum.inl none) h := by
  exact J.r_ret i82_7 rfl
/-! 83 java/util/Arrays.fill([BIIB)V -/
theorem i83_0 : J.cd 83 0 = some (.aload 0, 1, 0, 0, 0) := by decide +kernel
theorem i83_1 : J.cd 83 1 = some (.arraylength, 2, 1, 0, 0) := by decide +kernel
theorem i83_2 : J.cd 83 2 = some (.iload 1, 3, 0, 0, 0) := by decide +kernel
theorem i83_3 : J.cd 83 3 = some (.iload 2, 4, 0, 0, 0) := by decide +kernel
theorem i83_4 : J.cd 83 4 = some (.invokestatic 13, 7, 84, 3, 3) := by decide +kernel
theorem i83_7 : J.cd 83 7 = some (.iload 1, 8, 0, 0, 0) := by decide +kernel
theorem i83_8 : J.cd 83 8 = some (.istore 4, 10, 8, 0, 0) := by decide +kernel
theorem i83_10 : J.cd 83 10 = some (.iload 4, 12, 10, 0, 0) := by decide +kernel
theorem i83_12 : J.cd 83 12 = some (.iload 2, 13, 0, 0, 0) := by decide +kernel
theorem i83_13 : J.cd 83 13 = some (.if_icmp .ge 14, 16, 27, 0, 0) := by decide +kernel
theorem i83_16 : J.cd 83 16 = some (.aload 0, 17, 0, 0, 0) := by decide +kernel
theorem i83_17 : J.cd 83 17 = some (.iload 4, 19, 17, 0, 0) := by decide +kernel
theorem i83_19 : J.cd 83 19 = some (.iload 3, 20, 0, 0, 0) := by decide +kernel
theorem i83_20 : J.cd 83 20 = some (.bastore, 21, 20, 0, 0) := by decide +kernel
theorem i83_21 : J.cd 83 21 = some (.iinc 4 1, 24, 21, 0, 0) := by decide +kernel
theorem i83_24 : J.cd 83 24 = some (.goto (-14), 27, 10, 0, 0) := by decide +kernel
theorem i83_27 : J.cd 83 27 = some (.return_, 28, 27, 0, 0) := by decide +kernel
theorem b83_0 (d : Nat) (h : J.H) (Q : J.O → J.H → Prop) (x0 x1 x2 x3 : Int) : J.WP d 83 0 [J.R x0, J.I x1, J.I x2, J.I x3, J.U] [] h Q ↔ (J.ia (J.cl h x0) = true) ∧ (0 < d ∧ J.WP (d - 1) 84 0 [J.I (J.ln h x0), J.I x1, J.I x2] [] h (J.af J.WP d 83 4 7 [J.R x0, J.I x1, J.I x2, J.I x3, J.U] [] Q)) := by
  refine (J.r_aload i83_0 rfl).trans ?_
  refine (J.r_alen i83_1).trans (and_congr_right fun q0 => ?_)
  refine (J.r_iload i83_2 rfl).trans ?_
  refine (J.r_iload i83_3 rfl).trans ?_
  exact J.r_stat i83_4 (by decide) (Nat.le_of_ble_eq_true rfl) rfl rfl (Nat.le_of_ble_eq_true rfl)
theorem b83_7 (d : Nat) (h : J.H) (Q : J.O → J.H → Prop) (x0 x1 x2 x3 : Int) : J.WP d 83 7 [J.R x0, J.I x1, J.I x2, J.I x3, J.U] [] h Q ↔ J.WP d 83 10 [J.R x0, J.I x1, J.I x2, J.I x3, J.I x1] [] h Q := by
  refine (J.r_iload i83_7 rfl).trans ?_
  refine (J.r_istore i83_8 (Nat.le_of_ble_eq_true rfl) rfl).trans ?_
  exact Iff.rfl
theorem b83_10 (d : Nat) (h : J.H) (Q : J.O → J.H → Prop) (x0 x1 x2 x3 x4 : Int) : J.WP d 83 10 [J.R x0, J.I x1, J.I x2, J.I x3, J.I x4] [] h Q ↔ if x4 < x2 then ((((J.cl h x0 = 203 ∧ J.zo x3) ∨ (J.cl h x0 = 204 ∧ J.br x3)) ∧ J.rg x4 (J.ln h x0)) ∧ (J.WP d 83 10 [J.R x0, J.I x1, J.I x2, J.I x3, J.I (J.w32 (x4 + 1))] [] (J.sv h x0 x4 x3) Q)) else (Q (Sum.inl none) h) := by
  refine (J.r_iload i83_10 rfl).trans ?_
  refine (J.r_iload i83_12 rfl).trans ?_
  refine (J.r_icge i83_13).trans (J.ite2 ?_ ?_)
  · refine (J.r_aload i83_16 rfl).trans ?_
    refine (J.r_iload i83_17 rfl).trans ?_
    refine (J.r_iload i83_19 rfl).trans ?_
    refine (J.r_bastore i83_20).trans (and_congr_right fun q0 => ?_)
    refine (J.r_iinc i83_21 rfl rfl).trans ?_
    refine (J.r_goto i83_24).trans ?_
    exact Iff.rfl
  · exact J.r_ret i83_27 rfl
/-! 84 java/util/Arrays.rangeCheck(III)V -/
theorem i84_0 : J.cd 84 0 = some (.iload 1, 1, 0, 0, 0) := by decide +kernel
theorem i84_1 : J.cd 84 1 = some (.iload 2, 2, 0, 0, 0) := by decide +kernel
theorem i84_2 : J.cd 84 2 = some (.if_icmp .le 44, 5, 46, 0, 0) := by decide +kernel
theorem i84_5 : J.cd 84 5 = some (.new 43, 8, 21, 13, 0) := by decide +kernel
theorem i84_8 : J.cd 84 8 = some (.dup, 9, 8, 0, 0) := by decide +kernel
theorem i84_9 : J.cd 84 9 = some (.new 45, 12, 4, 11, 0) := by decide +kernel
theorem i84_12 : J.cd 84 12 = some (.dup, 13, 12, 0, 0) := by decide +kernel
theorem i84_13 : J.cd 84 13 = some (.invokespecial 47, 16, 4, 1, 1) := by decide +kernel
theorem i84_16 : J.cd 84 16 = some (.ldc 48, 18, 1057, 1, 0) := by decide +kernel
theorem i84_18 : J.cd 84 18 = some (.invokevirtual 50, 21, 188, 1, 0) := by decide +kernel
theorem i84_21 : J.cd 84 21 = some (.iload 1, 22, 0, 0, 0) := by decide +kernel
theorem i84_22 : J.cd 84 22 = some (.invokevirtual 54, 25, 138, 1, 0) := by decide +kernel
theorem i84_25 : J.cd 84 25 = some (.ldc 57, 27, 1058, 1, 0) := by decide +kernel
theorem i84_27 : J.cd 84 27 = some (.invokevirtual 50, 30, 188, 1, 0) := by decide +kernel
theorem i84_30 : J.cd 84 30 = some (.iload 2, 31, 0, 0, 0) := by decide +kernel
theorem i84_31 : J.cd 84 31 = some (.invokevirtual 54, 34, 138, 1, 0) := by decide +kernel
theorem i84_34 : J.cd 84 34 = some (.ldc 59, 36, 1059, 1, 0) := by decide +kernel
theorem i84_36 : J.cd 84 36 = some (.invokevirtual 50, 39, 188, 1, 0) := by decide +kernel
theorem i84_39 : J.cd 84 39 = some (.invokevirtual 61, 42, 163, 0, 0) := by decide +kernel
theorem i84_42 : J.cd 84 42 = some (.invokespecial 65, 45, 120, 2, 2) := by decide +kernel
theorem i84_45 : J.cd 84 45 = some (.athrow, 46, 45, 0, 0) := by decide +kernel
theorem i84_46 : J.cd 84 46 = some (.iload 1, 47, 0, 0, 0) := by decide +kernel
theorem i84_47 : J.cd 84 47 = some (.ifCond .ge 12, 50, 59, 0, 0) := by decide +kernel
theorem i84_59 : J.cd 84 59 = some (.iload 2, 60, 0, 0, 0) := by decide +kernel
theorem i84_60 : J.cd 84 60 = some (.iload 0, 61, 0, 0, 0) := by decide +kernel
theorem i84_61 : J.cd 84 61 = some (.if_icmp .le 12, 64, 73, 0, 0) := by decide +kernel
theorem i84_73 : J.cd 84 73 = some (.return_, 74, 73, 0, 0) := by decide +kernel
theorem b84_0 (d : Nat) (h : J.H) (Q : J.O → J.H → Prop) (x0 x1 x2 : Int) : J.WP d 84 0 [J.I x0, J.I x1, J.I x2] [] h Q ↔ if x1 ≤ x2 then (if x1 < 0 then (J.WP d 84 50 [J.I x0, J.I x1, J.I x2] [] h Q) else (if x2 ≤ x0 then (Q (Sum.inl none) h) else (J.WP d 84 64 [J.I x0, J.I x1, J.I x2] [] h Q))) else ((J.us h + (13 : Nat) ≤ J.UM) ∧ ((J.us (J.nw h 21 0 (13 : Nat)) + (11 : Nat) ≤ J.UM) ∧ (J.ik (J.cl (J.nw (J.nw h 21 0 (13 : Nat)) 4 0 (11 : Nat)) (J.nx (J.nw h 21 0 (13 : Nat)))) = true ∧ 0 < d ∧ J.WP (d - 1) 4 0 [J.R (J.nx (J.nw h 21 0 (13 : Nat)))] [] (J.nw (J.nw h 21 0 (13 : Nat)) 4 0 (11 : Nat)) (J.af J.WP d 84 13 16 [J.I x0, J.I x1, J.I x2] [J.R (J.nx (J.nw h 21 0 (13 : Nat))), J.R (J.nx h), J.R (J.nx h)] Q)))) := by
  refine (J.r_iload i84_0 rfl).trans ?_
  refine (J.r_iload i84_1 rfl).trans ?_
  refine (J.r_icle i84_2).trans (J.ite2 ?_ ?_)
  · refine (J.r_iload i84_46 rfl).trans ?_
    refine (J.r_ifge i84_47).trans (J.ite2 ?_ ?_)
    · exact Iff.rfl
    · refine (J.r_iload i84_59 rfl).trans ?_
      refine (J.r_iload i84_60 rfl).trans ?_
      refine (J.r_icle i84_61).trans (J.ite2 ?_ ?_)
      · exact J.r_ret i84_73 rfl
      · exact Iff.rfl
  · refine (J.r_new i84_5).trans (and_congr_right fun q0 => ?_)
    refine (J.r_dupR i84_8).trans ?_
    refine (J.r_new i84_9).trans (and_congr_right fun q1 => ?_)
    refine (J.r_dupR i84_12).trans ?_
    exact J.r_spec i84_13 (by decide) ⟨by decide, Nat.le_of_ble_eq_true rfl⟩ rfl rfl (Nat.le_of_ble_eq_true rfl)
theorem b84_16 (d : Nat) (h : J.H) (Q : J.O → J.H → Prop) (x0 x1 x2 s0 s1 s2 : Int) : J.WP d 84 16 [J.I x0, J.I x1, J.I x2] [J.R s2, J.R s1, J.R s0] h Q ↔ J.cl h s2 = 4 ∧ 0 < d ∧ J.WP (d - 1) 85 0 [J.R s2, J.R (J.gv h (-1) 1057)] [] h (J.af J.WP d 84 18 21 [J.I x0, J.I x1, J.I x2] [J.R s1, J.R s0] Q) := by
  refine (J.r_ldcs i84_16).trans ?_
  exact J.r_virt1 (k2 := 85) (m := 2) 4 i84_18 rfl (by decide +kernel) (by decide) rfl (Nat.le_of_ble_eq_true rfl)
theorem b84_21 (d : Nat) (h : J.H) (Q : J.O → J.H → Prop) (x0 x1 x2 s0 s1 s2 : Int) : J.WP d 84 21 [J.I x0, J.I x1, J.I x2] [J.R s2, J.R s1, J.R s0] h Q ↔ J.cl h s2 = 4 ∧ 0 < d ∧ J.WP (d - 1) 105 0 [J.R s2, J.I x1] [] h (J.af J.WP d 84 22 25 [J.I x0, J.I x1, J.I x2] [J.R s1, J.R s0] Q) := by
  refine (J.r_iload i84_21 rfl).trans ?_
  exact J.r_virt1 (k2 := 105) (m := 2) 4 i84_22 rfl (by decide +kernel) (by decide) rfl (Nat.le_of_ble_eq_true rfl)
theorem b84_25 (d : Nat) (h : J.H) (Q : J.O → J.H → Prop) (x0 x1 x2 s0 s1 s2 : Int) : J.WP d 84 25 [J.I x0, J.I x1, J.I x2] [J.R s2, J.R s1, J.R s0] h Q ↔ J.cl h s2 = 4 ∧ 0 < d ∧ J.WP (d - 1) 85 0 [J.R s2, J.R (J.gv h (-1) 1058)] [] h (J.af J.WP d 84 27 30 [J.I x0, J.I x1, J.I x2] [J.R s1, J.R s0] Q) := by
  refine (J.r_ldcs i84_25).trans ?_
  exact J.r_virt1 (k2 := 85) (m := 2) 4 i84_27 rfl (by decide +kernel) (by decide) rfl (Nat.le_of_ble_eq_true rfl)
theorem b84_30 (d : Nat) (h : J.H) (Q : J.O → J.H → Prop) (x0 x1 x2 s0 s1 s2 : Int) : J.WP d 84 30 [J.I x0, J.I x1, J.I x2] [J.R s2, J.R s1, J.R s0] h Q ↔ J.cl h s2 = 4 ∧ 0 < d ∧ J.WP (d - 1) 105 0 [J.R s2, J.I x2] [] h (J.af J.WP d 84 31 34 [J.I x0, J.I x1, J.I x2] [J.R s1, J.R s0] Q) := by
  refine (J.r_iload i84_30 rfl).trans ?_
  exact J.r_virt1 (k2 := 105) (m := 2) 4 i84_31 rfl (by decide +kernel) (by decide) rfl (Nat.le_of_ble_eq_true rfl)
theorem b84_34 (d : Nat) (h : J.H) (Q : J.O → J.H → Prop) (x0 x1 x2 s0 s1 s2 : Int) : J.WP d 84 34 [J.I x0, J.I x1, J.I x2] [J.R s2, J.R s1, J.R s0] h Q ↔ J.cl h s2 = 4 ∧ 0 < d ∧ J.WP (d - 1) 85 0 [J.R s2, J.R (J.gv h (-1) 1059)] [] h (J.af J.WP d 84 36 39 [J.I x0, J.I x1, J.I x2] [J.R s1, J.R s0] Q) := by
  refine (J.r_ldcs i84_34).trans ?_
  exact J.r_virt1 (k2 := 85) (m := 2) 4 i84_36 rfl (by decide +kernel) (by decide) rfl (Nat.le_of_ble_eq_true rfl)
theorem b84_39 (d : Nat) (h : J.H) (Q : J.O → J.H → Prop) (x0 x1 x2 s0 s1 s2 : Int) : J.WP d 84 39 [J.I x0, J.I x1, J.I x2] [J.R s2, J.R s1, J.R s0] h Q ↔ J.cl h s2 = 4 ∧ 0 < d ∧ J.WP (d - 1) 111 0 [J.R s2] [] h (J.af J.WP d 84 39 42 [J.I x0, J.I x1, J.I x2] [J.R s1, J.R s0] Q) := by
  exact J.r_virt1 (k2 := 111) (m := 1) 4 i84_39 rfl (by decide +kernel) (by decide) rfl (Nat.le_of_ble_eq_true rfl)
theorem b84_42 (d : Nat) (h : J.H) (Q : J.O → J.H → Prop) (x0 x1 x2 s0 s1 s2 : Int) : J.WP d 84 42 [J.I x0, J.I x1, J.I x2] [J.R s2, J.R s1, J.R s0] h Q ↔ J.ik (J.cl h s1) = true ∧ 0 < d ∧ J.WP (d - 1) 120 0 [J.R s1, J.R s2] [] h (J.af J.WP d 84 42 45 [J.I x0, J.I x1, J.I x2] [J.R s0] Q) := by
  exact J.r_spec i84_42 (by decide) ⟨by decide, Nat.le_of_ble_eq_true rfl⟩ rfl rfl (Nat.le_of_ble_eq_true rfl)
theorem b84_45 (d : Nat) (h : J.H) (Q : J.O → J.H → Prop) (x0 x1 x2 s0 : Int) : J.WP d 84 45 [J.I x0, J.I x1, J.I x2] [J.R s0] h Q ↔ (J.cl h s0 = 21) ∧ Q (Sum.inr s0) h := by
  exact J.r_throw i84_45 rfl
/-! 85 java/lang/StringBuilder.append(Ljava/lang/String;)Ljava/lang/StringBuilder; -/
theorem i85_0 : J.cd 85 0 = some (.aload 0, 1, 0, 0, 0) := by decide +kernel
theorem i85_1 : J.cd 85 1 = some (.aload 1, 2, 0, 0, 0) := by decide +kernel
theorem i85_2 : J.cd 85 2 = some (.invokespecial 29, 5, 86, 2, 3) := by decide +kernel
theorem i85_5 : J.cd 85 5 = some (.pop, 6, 5, 0, 0) := by decide +kernel
theorem i85_6 : J.cd 85 6 = some (.aload 0, 7, 0, 0, 0) := by decide +kernel
theorem i85_7 : J.cd 85 7 = some (.areturn, 8, 7, 0, 0) := by decide +kernel
theorem b85_0 (d : Nat) (h : J.H) (Q : J.O → J.H → Prop) (x0 x1 : Int) : J.WP d 85 0 [J.R x0, J.R x1] [] h Q ↔ J.ik (J.cl h x0) = true ∧ 0 < d ∧ J.WP (d - 1) 86 0 [J.R x0, J.R x1, J.U] [] h (J.af J.WP d 85 2 5 [J.R x0, J.R x1] [] Q) := by
  refine (J.r_aload i85_0 rfl).trans ?_
  refine (J.r_aload i85_1 rfl).trans ?_
  exact J.r_spec i85_2 (by decide) ⟨by decide, Nat.le_of_ble_eq_true rfl⟩ rfl rfl (Nat.le_of_ble_eq_true rfl)
theorem b85_5 (d : Nat) (h : J.H) (Q : J.O → J.H → Prop) (x0 x1 s0 : Int) : J.WP d 85 5 [J.R x0, J.R x1] [J.R s0] h Q ↔ Q (Sum.inl (some (J.R x0))) h := by
  refine (J.r_popR i85_5).trans ?_
  refine (J.r_aload i85_6 rfl).trans ?_
  exact J.r_aret i85_7 rfl
/-! 86 java/lang/AbstractStringBuilder.append(Ljava/lang/String;)Ljava/lang/AbstractStringBuilder; -/
theorem i86_0 : J.cd 86 0 = some (.aload 1, 1, 0, 0, 0) := by decide +kernel
theorem i86_1 : J.cd 86 1 = some (.ifnonnull 8, 4, 9, 0, 0) := by decide +kernel
theorem i86_4 : J.cd 86 4 = some (.aload 0, 5, 0, 0, 0) := by decide +kernel
theorem i86_5 : J.cd 86 5 = some (.invokevirtual 204, 8, 202, 0, 0) := by decide +kernel
theorem i86_8 : J.cd 86 8 = some (.areturn, 9, 8, 0, 0) := by decide +kernel
theorem i86_9 : J.cd 86 9 = some (.aload 1, 10, 0, 0, 0) := by decide +kernel
theorem i86_10 : J.cd 86 10 = some (.invokevirtual 32, 13, 144, 0, 0) := by decide +kernel
theorem i86_13 : J.cd 86 13 = some (.istore 2, 14, 0, 0, 0) := by decide +kernel
theorem i86_14 : J.cd 86 14 = some (.aload 0, 15, 0, 0, 0) := by decide +kernel
theorem i86_15 : J.cd 86 15 = some (.aload 0, 16, 0, 0, 0) := by decide +kernel
theorem i86_16 : J.cd 86 16 = some (.getfield 79, 19, 10, 86, 0) := by decide +kernel
theorem i86_19 : J.cd 86 19 = some (.iload 2, 20, 0, 0, 0) := by decide +kernel
theorem i86_20 : J.cd 86 20 = some (.iadd, 21, 20, 0, 0) := by decide +kernel
theorem i86_21 : J.cd 86 21 = some (.invokevirtual 100, 24, 199, 1, 0) := by decide +kernel
theorem i86_24 : J.cd 86 24 = some (.aload 0, 25, 0, 0, 0) := by decide +kernel
theorem i86_25 : J.cd 86 25 = some (.aload 0, 26, 0, 0, 0) := by decide +kernel
theorem i86_26 : J.cd 86 26 = some (.getfield 79, 29, 10, 86, 0) := by decide +kernel
theorem i86_29 : J.cd 86 29 = some (.aload 1, 30, 0, 0, 0) := by decide +kernel
theorem i86_30 : J.cd 86 30 = some (.invokevirtual 208, 33, 203, 2, 0) := by decide +kernel
theorem i86_33 : J.cd 86 33 = some (.aload 0, 34, 0, 0, 0) := by decide +kernel
theorem i86_34 : J.cd 86 34 = some (.dup, 35, 34, 0, 0) := by decide +kernel
theorem i86_35 : J.cd 86 35 = some (.getfield 79, 38, 10, 86, 0) := by decide +kernel
theorem i86_38 : J.cd 86 38 = some (.iload 2, 39, 0, 0, 0) := by decide +kernel
theorem i86_39 : J.cd 86 39 = some (.iadd, 40, 39, 0, 0) := by decide +kernel
theorem i86_40 : J.cd 86 40 = some (.putfield 79, 43, 10, 86, 0) := by decide +kernel
theorem i86_43 : J.cd 86 43 = some (.aload 0, 44, 0, 0, 0) := by decide +kernel
theorem i86_44 : J.cd 86 44 = some (.areturn, 45, 44, 0, 0) := by decide +kernel
theorem b86_0 (d : Nat) (h : J.H) (Q : J.O → J.H → Prop) (x0 x1 : Int) : J.WP d 86 0 [J.R x0, J.R x1, J.U] [] h Q ↔ if x1 = 0 then (J.cl h x0 = 4 ∧ 0 < d ∧ J.WP (d - 1) 87 0 [J.R x0, J.U, J.U] [] h (J.af J.WP d 86 5 8 [J.R x0, J.R x1, J.U] [] Q)) else (J.WP d 86 10 [J.R x0, J.R x1, J.U] [J.R x1] h Q) := by
  refine (J.r_aload i86_0 rfl).trans ?_
  refine (J.r_ifnonnull i86_1).trans (J.ite2 ?_ ?_)
  · refine (J.r_aload i86_4 rfl).trans ?_
    exact J.r_virt1 (k2 := 87) (m := 3) 4 i86_5 rfl (by decide +kernel) (by decide) rfl (Nat.le_of_ble_eq_true rfl)
  · refine (J.r_aload i86_9 rfl).trans ?_
    exact Iff.rfl
theorem b86_8 (d : Nat) (h : J.H) (Q : J.O → J.H → Prop) (x0 x1 s0 : Int) : J.WP d 86 8 [J.R x0, J.R x1, J.U] [J.R s0] h Q ↔ Q (Sum.inl (some (J.R s0))) h := by
  exact J.r_aret i86_8 rfl
theorem b86_10_c23 (d : Nat) (h : J.H) (Q : J.O → J.H → Prop) (x0 x1 s0 : Int) (hq : J.cl h s0 = 23) : J.WP d 86 10 [J.R x0, J.R x1, J.U] [J.R s0] h Q ↔ 0 < d ∧ J.WP (d - 1) 94 0 [J.R s0] [] h (J.af J.WP d 86 10 13 [J.R x0, J.R x1, J.U] [] Q) := by
  exact J.r_virt (k2 := 94) (m := 1) i86_10 rfl 23 hq (by decide +kernel) (by decide) rfl (Nat.le_of_ble_eq_true rfl)
theorem b86_10_c321 (d : Nat) (h : J.H) (Q : J.O → J.H → Prop) (x0 x1 s0 : Int) (hq : J.cl h s0 = 321) : J.WP d 86 10 [J.R x0, J.R x1, J.U] [J.R s0] h Q ↔ 0 < d ∧ J.WP (d - 1) 94 0 [J.R s0] [] h (J.af J.WP d 86 10 13 [J.R x0, J.R x1, J.U] [] Q) := by
  exact J.r_virt (k2 := 94) (m := 1) i86_10 rfl 321 hq (by decide +kernel) (by decide) rfl (Nat.le_of_ble_eq_true rfl)
theorem b86_13 (d : Nat) (h : J.H) (Q : J.O → J.H → Prop) (x0 x1 s0 : Int) : J.WP d 86 13 [J.R x0, J.R x1, J.U] [J.I s0] h Q ↔ (J.sb (J.cl h x0) 86 = true) ∧ (J.cl h x0 = 4 ∧ 0 < d ∧ J.WP (d - 1) 78 0 [J.R x0, J.I (J.w32 ((J.gv h x0 10) + s0)), J.U] [] h (J.af J.WP d 86 21 24 [J.R x0, J.R x1, J.I s0] [] Q)) := by
  refine (J.r_istore i86_13 (Nat.le_of_ble_eq_true rfl) rfl).trans ?_
  refine (J.r_aload i86_14 rfl).trans ?_
  refine (J.r_aload i86_15 rfl).trans ?_
  refine (J.r_getI i86_16).trans (and_congr_right fun q0 => ?_)
  refine (J.r_iload i86_19 rfl).trans ?_
  refine (J.r_iadd i86_20).trans ?_
  exact J.r_virt1 (k2 := 78) (m := 3) 4 i86_21 rfl (by decide +kernel) (by decide) rfl (Nat.le_of_ble_eq_true rfl)
theorem b86_24 (d : Nat) (h : J.H) (Q : J.O → J.H → Prop) (x0 x1 x2 : Int) : J.WP d 86 24 [J.R x0, J.R x1, J.I x2] [] h Q ↔ (J.sb (J.cl h x0) 86 = true) ∧ (J.cl h x0 = 4 ∧ 0 < d ∧ J.WP (d - 1) 96 0 [J.R x0, J.I (J.gv h x0 10), J.R x1] [] h (J.af J.WP d 86 30 33 [J.R x0, J.R x1, J.I x2] [] Q)) := by
  refine (J.r_aload i86_24 rfl).trans ?_
  refine (J.r_aload i86_25 rfl).trans ?_
  refine (J.r_getI i86_26).trans (and_congr_right fun q0 => ?_)
  refine (J.r_aload i86_29 rfl).trans ?_
  exact J.r_virt1 (k2 := 96) (m := 3) 4 i86_30 rfl (by decide +kernel) (by decide) rfl (Nat.le_of_ble_eq_true rfl)
theorem b86_33 (d : Nat) (h : J.H) (Q : J.O → J.H → Prop) (x0 x1 x2 : Int) : J.WP d 86 33 [J.R x0, J.R x1, J.I x2] [] h Q ↔ (J.sb (J.cl h x0) 86 = true) ∧ ((J.sb (J.cl h x0) 86 = true ∧ J.cl h x0 < 300) ∧ (Q (Sum.inl (some (J.R x0))) (J.sv h x0 10 (J.w32 ((J.gv h x0 10) + x2))))) := by
  refine (J.r_aload i86_33 rfl).trans ?_
  refine (J.r_dupR i86_34).trans ?_
  refine (J.r_getI i86_35).trans (and_congr_right fun q0 => ?_)
  refine (J.r_iload i86_38 rfl).trans ?_
  refine (J.r_iadd i86_39).trans ?_
  refine (J.r_putI i86_40).trans (and_congr_right fun q1 => ?_)
  refine (J.r_aload i86_43 rfl).trans ?_
  exact J.r_aret i86_44 rfl
/-! 96 java/lang/AbstractStringBuilder.putStringAt(ILjava/lang/String;)V -/
theorem i96_0 : J.cd 96 0 = some (.aload 0, 1, 0, 0, 0) := by decide +kernel
theorem i96_1 : J.cd 96 1 = some (.aload 2, 2, 0, 0, 0) := by decide +kernel
theorem i96_2 : J.cd 96 2 = some (.invokevirtual 397, 5, 204, 1, 0) := by decide +kernel
theorem i96_5 : J.cd 96 5 = some (.aload 2, 6, 0, 0, 0) := by decide +kernel
theorem i96_6 : J.cd 96 6 = some (.aload 0, 7, 0, 0, 0) := by decide +kernel
theorem i96_7 : J.cd 96 7 = some (.getfield 15, 10, 7, 86, 2) := by decide +kernel
theorem i96_10 : J.cd 96 10 = some (.iload 1, 11, 0, 0, 0) := by decide +kernel
theorem i96_11 : J.cd 96 11 = some (.aload 0, 12, 0, 0, 0) := by decide +kernel
theorem i96_12 : J.cd 96 12 = some (.getfield 22, 15, 8, 86, 4) := by decide +kernel
theorem i96_15 : J.cd 96 15 = some (.invokevirtual 399, 18, 207, 3, 0) := by decide +kernel
theorem i96_18 : J.cd 96 18 = some (.return_, 19, 18, 0, 0) := by decide +kernel
theorem b96_0 (d : Nat) (h : J.H) (Q : J.O → J.H → Prop) (x0 x1 x2 : Int) : J.WP d 96 0 [J.R x0, J.I x1, J.R x2] [] h Q ↔ J.cl h x0 = 4 ∧ 0 < d ∧ J.WP (d - 1) 97 0 [J.R x0, J.R x2] [] h (J.af J.WP d 96 2 5 [J.R x0, J.I x1, J.R x2] [] Q) := by
  refine (J.r_aload i96_0 rfl).trans ?_
  refine (J.r_aload i96_1 rfl).trans ?_
  exact J.r_virt1 (k2 := 97) (m := 2) 4 i96_2 rfl (by decide +kernel) (by decide) rfl (Nat.le_of_ble_eq_true rfl)
theorem b96_5 (d : Nat) (h : J.H) (Q : J.O → J.H → Prop) (x0 x1 x2 : Int) : J.WP d 96 5 [J.R x0, J.I x1, J.R x2] [] h Q ↔ (J.sb (J.cl h x0) 86 = true) ∧ (J.WP d 96 15 [J.R x0, J.I x1, J.R x2] [J.I (J.gv h x0 8), J.I x1, J.R (J.gv h x0 7), J.R x2] h Q) := by
  refine (J.r_aload i96_5 rfl).trans ?_
  refine (J.r_aload i96_6 rfl).trans ?_
  refine (J.r_getR i96_7).trans (and_congr_right fun q0 => ?_)
  refine (J.r_iload i96_10 rfl).trans ?_
  refine (J.r_aload i96_11 rfl).trans ?_
  refine (J.r_getB i96_12).trans ((J.tru q0).trans ?_)
  exact Iff.rfl
theorem b96_15_c23 (d : Nat) (h : J.H) (Q : J.O → J.H → Prop) (x0 x1 x2 s0 s1 s2 s3 : Int) (hq : J.cl h s0 = 23) : J.WP d 96 15 [J.R x0, J.I x1, J.R x2] [J.I s3, J.I s2, J.R s1, J.R s0] h Q ↔ 0 < d ∧ J.WP (d - 1) 104 0 [J.R s0, J.R s1, J.I s2, J.I s3] [] h (J.af J.WP d 96 15 18 [J.R x0, J.I x1, J.R x2] [] Q) := by
  exact J.r_virt (k2 := 104) (m := 4) i96_15 rfl 23 hq (by decide +kernel) (by decide) rfl (Nat.le_of_ble_eq_true rfl)
theorem b96_15_c321 (d : Nat) (h : J.H) (Q : J.O → J.H → Prop) (x0 x1 x2 s0 s1 s2 s3 : Int) (hq : J.cl h s0 = 321) : J.WP d 96 15 [J.R x0, J.I x1, J.R x2] [J.I s3, J.I s2, J.R s1, J.R s0] h Q ↔ 0 < d ∧ J.WP (d - 1) 104 0 [J.R s0, J.R s1, J.I s2, J.I s3] [] h (J.af J.WP d 96 15 18 [J.R x0, J.I x1, J.R x2] [] Q) := by
  exact J.r_virt (k2 := 104) (m := 4) i96_15 rfl 321 hq (by decide +kernel) (by decide) rfl (Nat.le_of_ble_eq_true rfl)
theorem b96_18 (d : Nat) (h : J.H) (Q : J.O → J.H → Prop) (x0 x1 x2 : Int) : J.WP d 96 18 [J.R x0, J.I x1, J.R x2] [] h Q ↔ Q (Sum.inl none) h := by
  exact J.r_ret i96_18 rfl
/-! 97 java/lang/AbstractStringBuilder.inflateIfNeededFor(Ljava/lang/String;)V -/
theorem i97_0 : J.cd 97 0 = some (.getstatic 18, 3, 0, 0, 3) := by decide +kernel
theorem i97_3 : J.cd 97 3 = some (.ifCond .eq 18, 6, 21, 0, 0) := by decide +kernel
theorem i97_6 : J.cd 97 6 = some (.aload 0, 7, 0, 0, 0) := by decide +kernel
theorem i97_7 : J.cd 97 7 = some (.getfield 22, 10, 8, 86, 4) := by decide +kernel
theorem i97_10 : J.cd 97 10 = some (.aload 1, 11, 0, 0, 0) := by decide +kernel
theorem i97_11 : J.cd 97 11 = some (.invokevirtual 40, 14, 205, 0, 0) := by decide +kernel
theorem i97_14 : J.cd 97 14 = some (.if_icmp .eq 7, 17, 21, 0, 0) := by decide +kernel
theorem i97_17 : J.cd 97 17 = some (.aload 0, 18, 0, 0, 0) := by decide +kernel
theorem i97_18 : J.cd 97 18 = some (.invokevirtual 195, 21, 206, 0, 0) := by decide +kernel
theorem i97_21 : J.cd 97 21 = some (.return_, 22, 21, 0, 0) := by decide +kernel
theorem b97_0 (d : Nat) (h : J.H) (Q : J.O → J.H → Prop) (x0 x1 : Int) : J.WP d 97 0 [J.R x0, J.R x1] [] h Q ↔ if (J.gv h (-1) 0) = 0 then (J.WP d 97 21 [J.R x0, J.R x1] [] h Q) else ((J.sb (J.cl h x0) 86 = true) ∧ (J.WP d 97 11 [J.R x0, J.R x1] [J.R x1, J.I (J.gv h x0 8)] h Q)) := by
  refine (J.r_getsZ i97_0).trans ?_
  refine (J.r_ifeq i97_3).trans (J.ite2 ?_ ?_)
  · exact Iff.rfl
  · refine (J.r_aload i97_6 rfl).trans ?_
    refine (J.r_getB i97_7).trans (and_congr_right fun q0 => ?_)
    refine (J.r_aload i97_10 rfl).trans ?_
    exact Iff.rfl
theorem b97_11_c23 (d : Nat) (h : J.H) (Q : J.O → J.H → Prop) (x0 x1 s0 s1 : Int) (hq : J.cl h s1 = 23) : J.WP d 97 11 [J.R x0, J.R x1] [J.R s1, J.I s0] h Q ↔ 0 < d ∧ J.WP (d - 1) 95 0 [J.R s1] [] h (J.af J.WP d 97 11 14 [J.R x0, J.R x1] [J.I s0] Q) := by
  exact J.r_virt (k2 := 95) (m := 1) i97_11 rfl 23 hq (by decide +kernel) (by decide) rfl (Nat.le_of_ble_eq_true rfl)
theorem b97_11_c321 (d : Nat) (h : J.H) (Q : J.O → J.H → Prop) (x0 x1 s0 s1 : Int) (hq : J.cl h s1 = 321) : J.WP d 97 11 [J.R x0, J.R x1] [J.R s1, J.I s0] h Q ↔ 0 < d ∧ J.WP (d - 1) 95 0 [J.R s1] [] h (J.af J.WP d 97 11 14 [J.R x0, J.R x1] [J.I s0] Q) := by
  exact J.r_virt (k2 := 95) (m := 1) i97_11 rfl 321 hq (by decide +kernel) (by decide) rfl (Nat.le_of_ble_eq_true rfl)
theorem b97_14 (d : Nat) (h : J.H) (Q : J.O → J.H → Prop) (x0 x1 s0 s1 : Int) : J.WP d 97 14 [J.R x0, J.R x1] [J.I s1, J.I s0] h Q ↔ if s0 = s1 then (J.WP d 97 21 [J.R x0, J.R x1] [] h Q) else (J.cl h x0 = 4 ∧ 0 < d ∧ J.WP (d - 1) 98 0 [J.R x0, J.U] [] h (J.af J.WP d 97 18 21 [J.R x0, J.R x1] [] Q)) := by
  refine (J.r_iceq i97_14).trans (J.ite2 ?_ ?_)
  · exact Iff.rfl
  · refine (J.r_aload i97_17 rfl).trans ?_
    exact J.r_virt1 (k2 := 98) (m := 2) 4 i97_18 rfl (by decide +kernel) (by decide) rfl (Nat.le_of_ble_eq_true rfl)
theorem b97_21 (d : Nat) (h : J.H) (Q : J.O → J.H → Prop) (x0 x1 : Int) : J.WP d 97 21 [J.R x0, J.R x1] [] h Q ↔ Q (Sum.inl none) h := by
  exact J.r_ret i97_21 rfl
/-! 104 java/lang/String.getBytes([BIB)V -/
theorem i104_0 : J.cd 104 0 = some (.aload 0, 1, 0, 0, 0) := by decide +kernel
theorem i104_1 : J.cd 104 1 = some (.invokevirtual 335, 4, 205, 0, 0) := by decide +kernel
theorem i104_4 : J.cd 104 4 = some (.iload 3, 5, 0, 0, 0) := by decide +kernel
theorem i104_5 : J.cd 104 5 = some (.if_icmp .ne 23, 8, 28, 0, 0) := by decide +kernel
theorem i104_8 : J.cd 104 8 = some (.aload 0, 9, 0, 0, 0) := by decide +kernel
theorem i104_9 : J.cd 104 9 = some (.getfield 9, 12, 170, 23, 2) := by decide +kernel
theorem i104_12 : J.cd 104 12 = some (.iconst 0, 13, 12, 0, 0) := by decide +kernel
theorem i104_13 : J.cd 104 13 = some (.aload 1, 14, 0, 0, 0) := by decide +kernel
theorem i104_14 : J.cd 104 14 = some (.iload 2, 15, 0, 0, 0) := by decide +kernel
theorem i104_15 : J.cd 104 15 = some (.iload 3, 16, 0, 0, 0) := by decide +kernel
theorem i104_16 : J.cd 104 16 = some (.ishl, 17, 16, 0, 0) := by decide +kernel
theorem i104_17 : J.cd 104 17 = some (.aload 0, 18, 0, 0, 0) := by decide +kernel
theorem i104_18 : J.cd 104 18 = some (.getfield 9, 21, 170, 23, 2) := by decide +kernel
theorem i104_21 : J.cd 104 21 = some (.arraylength, 22, 21, 0, 0) := by decide +kernel
theorem i104_22 : J.cd 104 22 = some (.invokestatic 212, 25, 2000, 5, 0) := by decide +kernel
theorem i104_25 : J.cd 104 25 = some (.goto 18, 28, 43, 0, 0) := by decide +kernel
theorem i104_28 : J.cd 104 28 = some (.aload 0, 29, 0, 0, 0) := by decide +kernel
theorem i104_29 : J.cd 104 29 = some (.getfield 9, 32, 170, 23, 2) := by decide +kernel
theorem i104_32 : J.cd 104 32 = some (.iconst 0, 33, 32, 0, 0) := by decide +kernel
theorem i104_33 : J.cd 104 33 = some (.aload 1, 34, 0, 0, 0) := by decide +kernel
theorem i104_34 : J.cd 104 34 = some (.iload 2, 35, 0, 0, 0) := by decide +kernel
theorem i104_35 : J.cd 104 35 = some (.aload 0, 36, 0, 0, 0) := by decide +kernel
theorem i104_36 : J.cd 104 36 = some (.getfield 9, 39, 170, 23, 2) := by decide +kernel
theorem i104_39 : J.cd 104 39 = some (.arraylength, 40, 39, 0, 0) := by decide +kernel
theorem i104_40 : J.cd 104 40 = some (.invokestatic 106, 43, 99, 5, 5) := by decide +kernel
theorem i104_43 : J.cd 104 43 = some (.return_, 44, 43, 0, 0) := by decide +kernel
theorem b104_0 (d : Nat) (h : J.H) (Q : J.O → J.H → Prop) (x0 x1 x2 x3 : Int) : J.WP d 104 0 [J.R x0, J.R x1, J.I x2, J.I x3] [] h Q ↔ J.WP d 104 1 [J.R x0, J.R x1, J.I x2, J.I x3] [J.R x0] h Q := by
  refine (J.r_aload i104_0 rfl).trans ?_
  exact Iff.rfl
theorem b104_1_c23 (d : Nat) (h : J.H) (Q : J.O → J.H → Prop) (x0 x1 x2 x3 s0 : Int) (hq : J.cl h s0 = 23) : J.WP d 104 1 [J.R x0, J.R x1, J.I x2, J.I x3] [J.R s0] h Q ↔ 0 < d ∧ J.WP (d - 1) 95 0 [J.R s0] [] h (J.af J.WP d 104 1 4 [J.R x0, J.R x1, J.I x2, J.I x3] [] Q) := by
  exact J.r_virt (k2 := 95) (m := 1) i104_1 rfl 23 hq (by decide +kernel) (by decide) rfl (Nat.le_of_ble_eq_true rfl)
theorem b104_1_c321 (d : Nat) (h : J.H) (Q : J.O → J.H → Prop) (x0 x1 x2 x3 s0 : Int) (hq : J.cl h s0 = 321) : J.WP d 104 1 [J.R x0, J.R x1, J.I x2, J.I x3] [J.R s0] h Q ↔ 0 < d ∧ J.WP (d - 1) 95 0 [J.R s0] [] h (J.af J.WP d 104 1 4 [J.R x0, J.R x1, J.I x2, J.I x3] [] Q) := by
  exact J.r_virt (k2 := 95) (m := 1) i104_1 rfl 321 hq (by decide +kernel) (by decide) rfl (Nat.le_of_ble_eq_true rfl)
theorem b104_4 (d : Nat) (h : J.H) (Q : J.O → J.H → Prop) (x0 x1 x2 x3 s0 : Int) : J.WP d 104 4 [J.R x0, J.R x1, J.I x2, J.I x3] [J.I s0] h Q ↔ if s0 = x3 then ((J.sb (J.cl h x0) 23 = true) ∧ ((J.ia (J.cl h (J.gv h x0 170)) = true) ∧ (((0 : Int) ≤ (J.ln h (J.gv h x0 170)) ∧ (0 : Int) ≤ 0 ∧ (0 : Int) ≤ (J.shl32 x2 x3) ∧ 0 + (J.ln h (J.gv h x0 170)) ≤ J.ln h (J.gv h x0 170) ∧ (J.shl32 x2 x3) + (J.ln h (J.gv h x0 170)) ≤ J.ln h x1 ∧ J.cl h x1 < 300 ∧ ((J.isA (J.cl h (J.gv h x0 170)) 3 = true ∧ J.cl h x1 = 204 ∧ J.cl h (J.gv h x0 170) ≠ 203) ∨ (J.isA (J.cl h (J.gv h x0 170)) 2 = true ∧ J.cl h x1 = 214 ∧ J.vld h (J.gv h x0 170) 0 (J.ln h (J.gv h x0 170)) = true))) ∧ (J.WP d 104 43 [J.R x0, J.R x1, J.I x2, J.I x3] [] (J.cpy h (J.gv h x0 170) 0 x1 (J.shl32 x2 x3) (J.ln h (J.gv h x0 170))) Q)))) else ((J.sb (J.cl h x0) 23 = true) ∧ ((J.ia (J.cl h (J.gv h x0 170)) = true) ∧ (0 < d ∧ J.WP (d - 1) 99 0 [J.R (J.gv h x0 170), J.I 0, J.R x1, J.I x2, J.I (J.ln h (J.gv h x0 170))] [] h (J.af J.WP d 104 40 43 [J.R x0, J.R x1, J.I x2, J.I x3] [] Q)))) := by
  refine (J.r_iload i104_4 rfl).trans ?_
  refine (J.r_icne i104_5).trans (J.ite2 ?_ ?_)
  · refine (J.r_aload i104_8 rfl).trans ?_
    refine (J.r_getR i104_9).trans (and_congr_right fun q0 => ?_)
    refine (J.r_iconst i104_12).trans ?_
    refine (J.r_aload i104_13 rfl).trans ?_
    refine (J.r_iload i104_14 rfl).trans ?_
    refine (J.r_iload i104_15 rfl).trans ?_
    refine (J.r_ishl i104_16).trans ?_
    refine (J.r_aload i104_17 rfl).trans ?_
    refine (J.r_getR i104_18).trans ((J.tru q0).trans ?_)
    refine (J.r_alen i104_21).trans (and_congr_right fun q1 => ?_)
    refine (J.r_acopy i104_22).trans (and_congr_right fun q2 => ?_)
    refine (J.r_goto i104_25).trans ?_
    exact Iff.rfl
  · refine (J.r_aload i104_28 rfl).trans ?_
    refine (J.r_getR i104_29).trans (and_congr_right fun q0 => ?_)
    refine (J.r_iconst i104_32).trans ?_
    refine (J.r_aload i104_33 rfl).trans ?_
    refine (J.r_iload i104_34 rfl).trans ?_
    refine (J.r_aload i104_35 rfl).trans ?_
    refine (J.r_getR i104_36).trans ((J.tru q0).trans ?_)
    refine (J.r_alen i104_39).trans (and_congr_right fun q1 => ?_)
    exact J.r_stat i104_40 (by decide) (Nat.le_of_ble_eq_true rfl) rfl rfl (Nat.le_of_ble_eq_true rfl)
theorem b104_43 (d : Nat) (h : J.H) (Q : J.O → J.H → Prop) (x0 x1 x2 x3 : Int) : J.WP d 104 43 [J.R x0, J.R x1, J.I x2, J.I x3] [] h Q ↔ Q (Sum.inl none) h := by
  exact J.r_ret i104_43 rfl
/-! 105 java/lang/StringBuilder.append(I)Ljava/lang/StringBuilder; -/
theorem i105_0 : J.cd 105 0 = some (.aload 0, 1, 0, 0, 0) := by decide +kernel
theorem i105_1 : J.cd 105 1 = some (.iload 1, 2, 0, 0, 0) := by decide +kernel
theorem i105_2 : J.cd 105 2 = some (.invokespecial 53, 5, 106, 2, 4) := by decide +kernel
theorem i105_5 : J.cd 105 5 = some (.pop, 6, 5, 0, 0) := by decide +kernel
theorem i105_6 : J.cd 105 6 = some (.aload 0, 7, 0, 0, 0) := by decide +kernel
theorem i105_7 : J.cd 105 7 = some (.areturn, 8, 7, 0, 0) := by decide +kernel
theorem b105_0 (d : Nat) (h : J.H) (Q : J.O → J.H → Prop) (x0 x1 : Int) : J.WP d 105 0 [J.R x0, J.I x1] [] h Q ↔ J.ik (J.cl h x0) = true ∧ 0 < d ∧ J.WP (d - 1) 106 0 [J.R x0, J.I x1, J.U, J.U] [] h (J.af J.WP d 105 2 5 [J.R x0, J.I x1] [] Q) := by
  refine (J.r_aload i105_0 rfl).trans ?_
  refine (J.r_iload i105_1 rfl).trans ?_
  exact J.r_spec i105_2 (by decide) ⟨by decide, Nat.le_of_ble_eq_true rfl⟩ rfl rfl (Nat.le_of_ble_eq_true rfl)
theorem b105_5 (d : Nat) (h : J.H) (Q : J.O → J.H → Prop) (x0 x1 s0 : Int) : J.WP d 105 5 [J.R x0, J.I x1] [J.R s0] h Q ↔ Q (Sum.inl (some (J.R x0))) h := by
  refine (J.r_popR i105_5).trans ?_
  refine (J.r_aload i105_6 rfl).trans ?_
  exact J.r_aret i105_7 rfl
/-! 106 java/lang/AbstractStringBuilder.append(I)Ljava/lang/AbstractStringBuilder; -/
theorem i106_0 : J.cd 106 0 = some (.aload 0, 1, 0, 0, 0) := by decide +kernel
theorem i106_1 : J.cd 106 1 = some (.getfield 79, 4, 10, 86, 0) := by decide +kernel
theorem i106_4 : J.cd 106 4 = some (.istore 2, 5, 0, 0, 0) := by decide +kernel
theorem i106_5 : J.cd 106 5 = some (.iload 2, 6, 0, 0, 0) := by decide +kernel
theorem i106_6 : J.cd 106 6 = some (.iload 1, 7, 0, 0, 0) := by decide +kernel
theorem i106_7 : J.cd 106 7 = some (.invokestatic 245, 10, 107, 1, 4) := by decide +kernel
theorem i106_10 : J.cd 106 10 = some (.iadd, 11, 10, 0, 0) := by decide +kernel
theorem i106_11 : J.cd 106 11 = some (.istore 3, 12, 0, 0, 0) := by decide +kernel
theorem i106_12 : J.cd 106 12 = some (.aload 0, 13, 0, 0, 0) := by decide +kernel
theorem i106_13 : J.cd 106 13 = some (.iload 3, 14, 0, 0, 0) := by decide +kernel
theorem i106_14 : J.cd 106 14 = some (.invokevirtual 100, 17, 199, 1, 0) := by decide +kernel
theorem i106_17 : J.cd 106 17 = some (.aload 0, 18, 0, 0, 0) := by decide +kernel
theorem i106_18 : J.cd 106 18 = some (.invokevirtual 83, 21, 201, 0, 0) := by decide +kernel
theorem i106_21 : J.cd 106 21 = some (.ifCond .eq 16, 24, 37, 0, 0) := by decide +kernel
theorem i106_24 : J.cd 106 24 = some (.iload 1, 25, 0, 0, 0) := by decide +kernel
theorem i106_25 : J.cd 106 25 = some (.iload 3, 26, 0, 0, 0) := by decide +kernel
theorem i106_26 : J.cd 106 26 = some (.aload 0, 27, 0, 0, 0) := by decide +kernel
theorem i106_27 : J.cd 106 27 = some (.getfield 15, 30, 7, 86, 2) := by decide +kernel
theorem i106_30 : J.cd 106 30 = some (.invokestatic 248, 33, 108, 3, 7) := by decide +kernel
theorem i106_33 : J.cd 106 33 = some (.pop, 34, 33, 0, 0) := by decide +kernel
theorem i106_34 : J.cd 106 34 = some (.goto 14, 37, 48, 0, 0) := by decide +kernel
theorem i106_37 : J.cd 106 37 = some (.iload 1, 38, 0, 0, 0) := by decide +kernel
theorem i106_38 : J.cd 106 38 = some (.iload 2, 39, 0, 0, 0) := by decide +kernel
theorem i106_39 : J.cd 106 39 = some (.iload 3, 40, 0, 0, 0) := by decide +kernel
theorem i106_40 : J.cd 106 40 = some (.aload 0, 41, 0, 0, 0) := by decide +kernel
theorem i106_41 : J.cd 106 41 = some (.getfield 15, 44, 7, 86, 2) := by decide +kernel
theorem i106_44 : J.cd 106 44 = some (.invokestatic 251, 47, 109, 4, 5) := by decide +kernel
theorem i106_47 : J.cd 106 47 = some (.pop, 48, 47, 0, 0) := by decide +kernel
theorem i106_48 : J.cd 106 48 = some (.aload 0, 49, 0, 0, 0) := by decide +kernel
theorem i106_49 : J.cd 106 49 = some (.iload 3, 50, 0, 0, 0) := by decide +kernel
theorem i106_50 : J.cd 106 50 = some (.putfield 79, 53, 10, 86, 0) := by decide +kernel
theorem i106_53 : J.cd 106 53 = some (.aload 0, 54, 0, 0, 0) := by decide +kernel
theorem i106_54 : J.cd 106 54 = some (.areturn, 55, 54, 0, 0) := by decide +kernel
theorem b106_0 (d : Nat) (h : J.H) (Q : J.O → J.H → Prop) (x0 x1 : Int) : J.WP d 106 0 [J.R x0, J.I x1, J.U, J.U] [] h Q ↔ (J.sb (J.cl h x0) 86 = true) ∧ (0 < d ∧ J.WP (d - 1) 107 0 [J.I x1, J.U, J.U, J.U] [] h (J.af J.WP d 106 7 10 [J.R x0, J.I x1, J.I (J.gv h x0 10), J.U] [J.I (J.gv h x0 10)] Q)) := by
  refine (J.r_aload i106_0 rfl).trans ?_
  refine (J.r_getI i106_1).trans (and_congr_right fun q0 => ?_)
  refine (J.r_istore i106_4 (Nat.le_of_ble_eq_true rfl) rfl).trans ?_
  refine (J.r_iload i106_5 rfl).trans ?_
  refine (J.r_iload i106_6 rfl).trans ?_
  exact J.r_stat i106_7 (by decide) (Nat.le_of_ble_eq_true rfl) rfl rfl (Nat.le_of_ble_eq_true rfl)
theorem b106_10 (d : Nat) (h : J.H) (Q : J.O → J.H → Prop) (x0 x1 x2 s0 s1 : Int) : J.WP d 106 10 [J.R x0, J.I x1, J.I x2, J.U] [J.I s1, J.I s0] h Q ↔ J.cl h x0 = 4 ∧ 0 < d ∧ J.WP (d - 1) 78 0 [J.R x0, J.I (J.w32 (s0 + s1)), J.U] [] h (J.af J.WP d 106 14 17 [J.R x0, J.I x1, J.I x2, J.I (J.w32 (s0 + s1))] [] Q) := by
  refine (J.r_iadd i106_10).trans ?_
  refine (J.r_istore i106_11 (Nat.le_of_ble_eq_true rfl) rfl).trans ?_
  refine (J.r_aload i106_12 rfl).trans ?_
  refine (J.r_iload i106_13 rfl).trans ?_
  exact J.r_virt1 (k2 := 78) (m := 3) 4 i106_14 rfl (by decide +kernel) (by decide) rfl (Nat.le_of_ble_eq_true rfl)
theorem b106_17 (d : Nat) (h : J.H) (Q : J.O → J.H → Prop) (x0 x1 x2 x3 : Int) : J.WP d 106 17 [J.R x0, J.I x1, J.I x2, J.I x3] [] h Q ↔ J.cl h x0 = 4 ∧ 0 < d ∧ J.WP (d - 1) 81 0 [J.R x0] [] h (J.af J.WP d 106 18 21 [J.R x0, J.I x1, J.I x2, J.I x3] [] Q) := by
  refine (J.r_aload i106_17 rfl).trans ?_
  exact J.r_virt1 (k2 := 81) (m := 1) 4 i106_18 rfl (by decide +kernel) (by decide) rfl (Nat.le_of_ble_eq_true rfl)
theorem b106_21 (d : Nat) (h : J.H) (Q : J.O → J.H → Prop) (x0 x1 x2 x3 s0 : Int) : J.WP d 106 21 [J.R x0, J.I x1, J.I x2, J.I x3] [J.I s0] h Q ↔ if s0 = 0 then ((J.sb (J.cl h x0) 86 = true) ∧ (0 < d ∧ J.WP (d - 1) 109 0 [J.I x1, J.I x2, J.I x3, J.R (J.gv h x0 7), J.U] [] h (J.af J.WP d 106 44 47 [J.R x0, J.I x1, J.I x2, J.I x3] [] Q))) else ((J.sb (J.cl h x0) 86 = true) ∧ (0 < d ∧ J.WP (d - 1) 108 0 [J.I x1, J.I x3, J.R (J.gv h x0 7), J.U, J.U, J.U, J.U] [] h (J.af J.WP d 106 30 33 [J.R x0, J.I x1, J.I x2, J.I x3] [] Q))) := by
  refine (J.r_ifeq i106_21).trans (J.ite2 ?_ ?_)
  · refine (J.r_iload i106_37 rfl).trans ?_
    refine (J.r_iload i106_38 rfl).trans ?_
    refine (J.r_iload i106_39 rfl).trans ?_
    refine (J.r_aload i106_40 rfl).trans ?_
    refine (J.r_getR i106_41).trans (and_congr_right fun q0 => ?_)
    exact J.r_stat i106_44 (by decide) (Nat.le_of_ble_eq_true rfl) rfl rfl (Nat.le_of_ble_eq_true rfl)
  · refine (J.r_iload i106_24 rfl).trans ?_
    refine (J.r_iload i106_25 rfl).trans ?_
    refine (J.r_aload i106_26 rfl).trans ?_
    refine (J.r_getR i106_27).trans (and_congr_right fun q0 => ?_)
    exact J.r_stat i106_30 (by decide) (Nat.le_of_ble_eq_true rfl) rfl rfl (Nat.le_of_ble_eq_true rfl)
theorem b106_33 (d : Nat) (h : J.H) (Q : J.O → J.H → Prop) (x0 x1 x2 x3 s0 : Int) : J.WP d 106 33 [J.R x0, J.I x1, J.I x2, J.I x3] [J.I s0] h Q ↔ J.WP d 106 48 [J.R x0, J.I x1, J.I x2, J.I x3] [] h Q := by
  refine (J.r_popI i106_33).trans ?_
  refine (J.r_goto i106_34).trans ?_
  exact Iff.rfl
theorem b106_47 (d : Nat) (h : J.H) (Q : J.O → J.H → Prop) (x0 x1 x2 x3 s0 : Int) : J.WP d 106 47 [J.R x0, J.I x1, J.I x2, J.I x3] [J.I s0] h Q ↔ J.WP d 106 48 [J.R x0, J.I x1, J.I x2, J.I x3] [] h Q := by
  refine (J.r_popI i106_47).trans ?_
  exact Iff.rfl
theorem b106_48 (d : Nat) (h : J.H) (Q : J.O → J.H → Prop) (x0 x1 x2 x3 : Int) : J.WP d 106 48 [J.R x0, J.I x1, J.I x2, J.I x3] [] h Q ↔ (J.sb (J.cl h x0) 86 = true ∧ J.cl h x0 < 300) ∧ (Q (Sum.inl (some (J.R x0))) (J.sv h x0 10 x3)) := by
  refine (J.r_aload i106_48 rfl).trans ?_
  refine (J.r_iload i106_49 rfl).trans ?_
  refine (J.r_putI i106_50).trans (and_congr_right fun q0 => ?_)
  refine (J.r_aload i106_53 rfl).trans ?_
  exact J.r_aret i106_54 rfl
/-! 107 java/lang/Integer.stringSize(I)I -/
theorem i107_0 : J.cd 107 0 = some (.iconst 1, 1, 0, 0, 0) := by decide +kernel
theorem i107_1 : J.cd 107 1 = some (.istore 1, 2, 0, 0, 0) := by decide +kernel
theorem i107_2 : J.cd 107 2 = some (.iload 0, 3, 0, 0, 0) := by decide +kernel
theorem i107_3 : J.cd 107 3 = some (.ifCond .lt 8, 6, 11, 0, 0) := by decide +kernel
theorem i107_6 : J.cd 107 6 = some (.iconst 0, 7, 6, 0, 0) := by decide +kernel
theorem i107_7 : J.cd 107 7 = some (.istore 1, 8, 0, 0, 0) := by decide +kernel
theorem i107_8 : J.cd 107 8 = some (.iload 0, 9, 0, 0, 0) := by decide +kernel
theorem i107_9 : J.cd 107 9 = some (.ineg, 10, 9, 0, 0) := by decide +kernel
theorem i107_10 : J.cd 107 10 = some (.istore 0, 11, 0, 0, 0) := by decide +kernel
theorem i107_11 : J.cd 107 11 = some (.iconst (-10), 13, 0, 0, 0) := by decide +kernel
theorem i107_13 : J.cd 107 13 = some (.istore 2, 14, 0, 0, 0) := by decide +kernel
theorem i107_14 : J.cd 107 14 = some (.iconst 1, 15, 14, 0, 0) := by decide +kernel
theorem i107_15 : J.cd 107 15 = some (.istore 3, 16, 0, 0, 0) := by decide +kernel
theorem i107_16 : J.cd 107 16 = some (.iload 3, 17, 0, 0, 0) := by decide +kernel
theorem i107_17 : J.cd 107 17 = some (.iconst 10, 19, 0, 0, 0) := by decide +kernel
theorem i107_19 : J.cd 107 19 = some (.if_icmp .ge 23, 22, 42, 0, 0) := by decide +kernel
theorem i107_22 : J.cd 107 22 = some (.iload 0, 23, 0, 0, 0) := by decide +kernel
theorem i107_23 : J.cd 107 23 = some (.iload 2, 24, 0, 0, 0) := by decide +kernel
theorem i107_24 : J.cd 107 24 = some (.if_icmp .le 7, 27, 31, 0, 0) := by decide +kernel
theorem i107_27 : J.cd 107 27 = some (.iload 3, 28, 0, 0, 0) := by decide +kernel
theorem i107_28 : J.cd 107 28 = some (.iload 1, 29, 0, 0, 0) := by decide +kernel
theorem i107_29 : J.cd 107 29 = some (.iadd, 30, 29, 0, 0) := by decide +kernel
theorem i107_30 : J.cd 107 30 = some (.ireturn, 31, 0, 0, 0) := by decide +kernel
theorem i107_31 : J.cd 107 31 = some (.iconst 10, 33, 0, 0, 0) := by decide +kernel
theorem i107_33 : J.cd 107 33 = some (.iload 2, 34, 0, 0, 0) := by decide +kernel
theorem i107_34 : J.cd 107 34 = some (.imul, 35, 34, 0, 0) := by decide +kernel
theorem i107_35 : J.cd 107 35 = some (.istore 2, 36, 0, 0, 0) := by decide +kernel
theorem i107_36 : J.cd 107 36 = some (.iinc 3 1, 39, 36, 0, 0) := by decide +kernel
theorem i107_39 : J.cd 107 39 = some (.goto (-23), 42, 16, 0, 0) := by decide +kernel
theorem i107_42 : J.cd 107 42 = some (.iconst 10, 44, 0, 0, 0) := by decide +kernel
theorem i107_44 : J.cd 107 44 = some (.iload 1, 45, 0, 0, 0) := by decide +kernel
theorem i107_45 : J.cd 107 45 = some (.iadd, 46, 45, 0, 0) := by decide +kernel
theorem i107_46 : J.cd 107 46 = some (.ireturn, 47, 0, 0, 0) := by decide +kernel
theorem b107_0 (d : Nat) (h : J.H) (Q : J.O → J.H → Prop) (x0 : Int) : J.WP d 107 0 [J.I x0, J.U, J.U, J.U] [] h Q ↔ if x0 < 0 then (J.WP d 107 11 [J.I x0, J.I 1, J.U, J.U] [] h Q) else (J.WP d 107 11 [J.I (J.w32 (-x0)), J.I 0, J.U, J.U] [] h Q) := by
  refine (J.r_iconst i107_0).trans ?_
  refine (J.r_istore i107_1 (Nat.le_of_ble_eq_true rfl) rfl).trans ?_
  refine (J.r_iload i107_2 rfl).trans ?_
  refine (J.r_iflt i107_3).trans (J.ite2 ?_ ?_)
  · exact Iff.rfl
  · refine (J.r_iconst i107_6).trans ?_
    refine (J.r_istore i107_7 (Nat.le_of_ble_eq_true rfl) rfl).trans ?_
    refine (J.r_iload i107_8 rfl).trans ?_
    refine (J.r_ineg i107_9).trans ?_
    refine (J.r_istore i107_10 (Nat.le_of_ble_eq_true rfl) rfl).trans ?_
    exact Iff.rfl
theorem b107_11 (d : Nat) (h : J.H) (Q : J.O → J.H → Prop) (x0 x1 : Int) : J.WP d 107 11 [J.I x0, J.I x1, J.U, J.U] [] h Q ↔ J.WP d 107 16 [J.I x0, J.I x1, J.I (-10), J.I 1] [] h Q := by
  refine (J.r_iconst i107_11).trans ?_
  refine (J.r_istore i107_13 (Nat.le_of_ble_eq_true rfl) rfl).trans ?_
  refine (J.r_iconst i107_14).trans ?_
  refine (J.r_istore i107_15 (Nat.le_of_ble_eq_true rfl) rfl).trans ?_
  exact Iff.rfl
theorem b107_16 (d : Nat) (h : J.H) (Q : J.O → J.H → Prop) (x0 x1 x2 x3 : Int) : J.WP d 107 16 [J.I x0, J.I x1, J.I x2, J.I x3] [] h Q ↔ if x3 < 10 then (if x0 ≤ x2 then (J.WP d 107 16 [J.I x0, J.I x1, J.I (J.w32 (10 * x2)), J.I (J.w32 (x3 + 1))] [] h Q) else (Q (Sum.inl (some (J.I (J.w32 (x3 + x1))))) h)) else (Q (Sum.inl (some (J.I (J.w32 (10 + x1))))) h) := by
  refine (J.r_iload i107_16 rfl).trans ?_
  refine (J.r_iconst i107_17).trans ?_
  refine (J.r_icge i107_19).trans (J.ite2 ?_ ?_)
  · refine (J.r_iload i107_22 rfl).trans ?_
    refine (J.r_iload i107_23 rfl).trans ?_
    refine (J.r_icle i107_24).trans (J.ite2 ?_ ?_)
    · refine (J.r_iconst i107_31).trans ?_
      refine (J.r_iload i107_33 rfl).trans ?_
      refine (J.r_imul i107_34).trans ?_
      refine (J.r_istore i107_35 (Nat.le_of_ble_eq_true rfl) rfl).trans ?_
      refine (J.r_iinc i107_36 rfl rfl).trans ?_
      refine (J.r_goto i107_39).trans ?_
      exact Iff.rfl
    · refine (J.r_iload i107_27 rfl).trans ?_
      refine (J.r_iload i107_28 rfl).trans ?_
      refine (J.r_iadd i107_29).trans ?_
      exact J.r_iret i107_30 rfl
  · refine (J.r_iconst i107_42).trans ?_
    refine (J.r_iload i107_44 rfl).trans ?_
    refine (J.r_iadd i107_45).trans ?_
    exact J.r_iret i107_46 rfl
/-! 108 java/lang/Integer.getChars(II[B)I -/
theorem i108_0 : J.cd 108 0 = some (.iload 1, 1, 0, 0, 0) := by decide +kernel
theorem i108_1 : J.cd 108 1 = some (.istore 5, 3, 1, 0, 0) := by decide +kernel
theorem i108_3 : J.cd 108 3 = some (.iload 0, 4, 0, 0, 0) := by decide +kernel
theorem i108_4 : J.cd 108 4 = some (.ifCond .ge 7, 7, 11, 0, 0) := by decide +kernel
theorem i108_7 : J.cd 108 7 = some (.iconst 1, 8, 7, 0, 0) := by decide +kernel
theorem i108_8 : J.cd 108 8 = some (.goto 4, 11, 12, 0, 0) := by decide +kernel
theorem i108_11 : J.cd 108 11 = some (.iconst 0, 12, 11, 0, 0) := by decide +kernel
theorem i108_12 : J.cd 108 12 = some (.istore 6, 14, 12, 0, 0) := by decide +kernel
theorem i108_14 : J.cd 108 14 = some (.iload 6, 16, 14, 0, 0) := by decide +kernel
theorem i108_16 : J.cd 108 16 = some (.ifCond .ne 6, 19, 22, 0, 0) := by decide +kernel
theorem i108_19 : J.cd 108 19 = some (.iload 0, 20, 0, 0, 0) := by decide +kernel
theorem i108_20 : J.cd 108 20 = some (.ineg, 21, 20, 0, 0) := by decide +kernel
theorem i108_21 : J.cd 108 21 = some (.istore 0, 22, 0, 0, 0) := by decide +kernel
theorem i108_22 : J.cd 108 22 = some (.iload 0, 23, 0, 0, 0) := by decide +kernel
theorem i108_23 : J.cd 108 23 = some (.iconst (-100), 25, 0, 0, 0) := by decide +kernel
theorem i108_25 : J.cd 108 25 = some (.if_icmp .gt 47, 28, 72, 0, 0) := by decide +kernel
theorem i108_28 : J.cd 108 28 = some (.iload 0, 29, 0, 0, 0) := by decide +kernel
theorem i108_29 : J.cd 108 29 = some (.iconst 100, 31, 0, 0, 0) := by decide +kernel
theorem i108_31 : J.cd 108 31 = some (.idiv, 32, 31, 0, 0) := by decide +kernel
theorem i108_32 : J.cd 108 32 = some (.istore 3, 33, 0, 0, 0) := by decide +kernel
theorem i108_33 : J.cd 108 33 = some (.iload 3, 34, 0, 0, 0) := by decide +kernel
theorem i108_34 : J.cd 108 34 = some (.iconst 100, 36, 0, 0, 0) := by decide +kernel
theorem i108_36 : J.cd 108 36 = some (.imul, 37, 36, 0, 0) := by decide +kernel
theorem i108_37 : J.cd 108 37 = some (.iload 0, 38, 0, 0, 0) := by decide +kernel
theorem i108_38 : J.cd 108 38 = some (.isub, 39, 38, 0, 0) := by decide +kernel
theorem i108_39 : J.cd 108 39 = some (.istore 4, 41, 39, 0, 0) := by decide +kernel
theorem i108_41 : J.cd 108 41 = some (.iload 3, 42, 0, 0, 0) := by decide +kernel
theorem i108_42 : J.cd 108 42 = some (.istore 0, 43, 0, 0, 0) := by decide +kernel
theorem i108_43 : J.cd 108 43 = some (.aload 2, 44, 0, 0, 0) := by decide +kernel
theorem i108_44 : J.cd 108 44 = some (.iinc 5 (-1), 47, 44, 0, 0) := by decide +kernel
theorem i108_47 : J.cd 108 47 = some (.iload 5, 49, 47, 0, 0) := by decide +kernel
theorem i108_49 : J.cd 108 49 = some (.getstatic 83, 52, 9, 0, 2) := by decide +kernel
theorem i108_52 : J.cd 108 52 = some (.iload 4, 54, 52, 0, 0) := by decide +kernel
theorem i108_54 : J.cd 108 54 = some (.baload, 55, 54, 0, 0) := by decide +kernel
theorem i108_55 : J.cd 108 55 = some (.bastore, 56, 55, 0, 0) := by decide +kernel
theorem i108_56 : J.cd 108 56 = some (.aload 2, 57, 0, 0, 0) := by decide +kernel
theorem i108_57 : J.cd 108 57 = some (.iinc 5 (-1), 60, 57, 0, 0) := by decide +kernel
theorem i108_60 : J.cd 108 60 = some (.iload 5, 62, 60, 0, 0) := by decide +kernel
theorem i108_62 : J.cd 108 62 = some (.getstatic 87, 65, 10, 0, 2) := by decide +kernel
theorem i108_65 : J.cd 108 65 = some (.iload 4, 67, 65, 0, 0) := by decide +kernel
theorem i108_67 : J.cd 108 67 = some (.baload, 68, 67, 0, 0) := by decide +kernel
theorem i108_68 : J.cd 108 68 = some (.bastore, 69, 68, 0, 0) := by decide +kernel
theorem i108_69 : J.cd 108 69 = some (.goto (-47), 72, 22, 0, 0) := by decide +kernel
theorem i108_72 : J.cd 108 72 = some (.aload 2, 73, 0, 0, 0) := by decide +kernel
theorem i108_73 : J.cd 108 73 = some (.iinc 5 (-1), 76, 73, 0, 0) := by decide +kernel
theorem i108_76 : J.cd 108 76 = some (.iload 5, 78, 76, 0, 0) := by decide +kernel
theorem i108_78 : J.cd 108 78 = some (.getstatic 83, 81, 9, 0, 2) := by decide +kernel
theorem i108_81 : J.cd 108 81 = some (.iload 0, 82, 0, 0, 0) := by decide +kernel
theorem i108_82 : J.cd 108 82 = some (.ineg, 83, 82, 0, 0) := by decide +kernel
theorem i108_83 : J.cd 108 83 = some (.baload, 84, 83, 0, 0) := by decide +kernel
theorem i108_84 : J.cd 108 84 = some (.bastore, 85, 84, 0, 0) := by decide +kernel
theorem i108_85 : J.cd 108 85 = some (.iload 0, 86, 0, 0, 0) := by decide +kernel
theorem i108_86 : J.cd 108 86 = some (.iconst (-9), 88, 0, 0, 0) := by decide +kernel
theorem i108_88 : J.cd 108 88 = some (.if_icmp .ge 16, 91, 104, 0, 0) := by decide +kernel
theorem i108_91 : J.cd 108 91 = some (.aload 2, 92, 0, 0, 0) := by decide +kernel
theorem i108_92 : J.cd 108 92 = some (.iinc 5 (-1), 95, 92, 0, 0) := by decide +kernel
theorem i108_95 : J.cd 108 95 = some (.iload 5, 97, 95, 0, 0) := by decide +kernel
theorem i108_97 : J.cd 108 97 = some (.getstatic 87, 100, 10, 0, 2) := by decide +kernel
theorem i108_100 : J.cd 108 100 = some (.iload 0, 101, 0, 0, 0) := by decide +kernel
theorem i108_101 : J.cd 108 101 = some (.ineg, 102, 101, 0, 0) := by decide +kernel
theorem i108_102 : J.cd 108 102 = some (.baload, 103, 102, 0, 0) := by decide +kernel
theorem i108_103 : J.cd 108 103 = some (.bastore, 104, 103, 0, 0) := by decide +kernel
theorem i108_104 : J.cd 108 104 = some (.iload 6, 106, 104, 0, 0) := by decide +kernel
theorem i108_106 : J.cd 108 106 = some (.ifCond .eq 12, 109, 118, 0, 0) := by decide +kernel
theorem i108_109 : J.cd 108 109 = some (.aload 2, 110, 0, 0, 0) := by decide +kernel
theorem i108_110 : J.cd 108 110 = some (.iinc 5 (-1), 113, 110, 0, 0) := by decide +kernel
theorem i108_113 : J.cd 108 113 = some (.iload 5, 115, 113, 0, 0) := by decide +kernel
theorem i108_115 : J.cd 108 115 = some (.iconst 45, 117, 0, 0, 0) := by decide +kernel
theorem i108_117 : J.cd 108 117 = some (.bastore, 118, 117, 0, 0) := by decide +kernel
theorem i108_118 : J.cd 108 118 = some (.iload 5, 120, 118, 0, 0) := by decide +kernel
theorem i108_120 : J.cd 108 120 = some (.ireturn, 121, 0, 0, 0) := by decide +kernel
theorem b108_0 (d : Nat) (h : J.H) (Q : J.O → J.H → Prop) (x0 x1 x2 : Int) : J.WP d 108 0 [J.I x0, J.I x1, J.R x2, J.U, J.U, J.U, J.U] [] h Q ↔ if x0 < 0 then (J.WP d 108 12 [J.I x0, J.I x1, J.R x2, J.U, J.U, J.I x1, J.U] [J.I 1] h Q) else (J.WP d 108 12 [J.I x0, J.I x1, J.R x2, J.U, J.U, J.I x1, J.U] [J.I 0] h Q) := by
  refine (J.r_iload i108_0 rfl).trans ?_
  refine (J.r_istore i108_1 (Nat.le_of_ble_eq_true rfl) rfl).trans ?_
  refine (J.r_iload i108_3 rfl).trans ?_
  refine (J.r_ifge i108_4).trans (J.ite2 ?_ ?_)
  · refine (J.r_iconst i108_7).trans ?_
    refine (J.r_goto i108_8).trans ?_
    exact Iff.rfl
  · refine (J.r_iconst i108_11).trans ?_
    exact Iff.rfl
theorem b108_12 (d : Nat) (h : J.H) (Q : J.O → J.H → Prop) (x0 x1 x2 x5 s0 : Int) : J.WP d 108 12 [J.I x0, J.I x1, J.R x2, J.U, J.U, J.I x5, J.U] [J.I s0] h Q ↔ if s0 = 0 then (J.WP d 108 22 [J.I (J.w32 (-x0)), J.I x1, J.R x2, J.U, J.U, J.I x5, J.I s0] [] h Q) else (J.WP d 108 22 [J.I x0, J.I x1, J.R x2, J.U, J.U, J.I x5, J.I s0] [] h Q) := by
  refine (J.r_istore i108_12 (Nat.le_of_ble_eq_true rfl) rfl).trans ?_
  refine (J.r_iload i108_14 rfl).trans ?_
  refine (J.r_ifne i108_16).trans (J.ite2 ?_ ?_)
  · refine (J.r_iload i108_19 rfl).trans ?_
    refine (J.r_ineg i108_20).trans ?_
    refine (J.r_istore i108_21 (Nat.le_of_ble_eq_true rfl) rfl).trans ?_
    exact Iff.rfl
  · exact Iff.rfl
theorem b108_22 (d : Nat) (h : J.H) (Q : J.O → J.H → Prop) (x0 x1 x2 x5 x6 : Int) (v3 v4 : J.V) : J.WP d 108 22 [J.I x0, J.I x1, J.R x2, v3, v4, J.I x5, J.I x6] [] h Q ↔ if x0 ≤ (-100) then ((J.nz 100) ∧ ((J.isA (J.cl h (J.gv h (-1) 9)) 3 = true ∧ J.rg (J.w32 ((J.w32 ((J.w32 (Int.tdiv x0 100)) * 100)) - x0)) (J.ln h (J.gv h (-1) 9))) ∧ ((((J.cl h x2 = 203 ∧ J.zo (J.gv h (J.gv h (-1) 9) (J.w32 ((J.w32 ((J.w32 (Int.tdiv x0 100)) * 100)) - x0)))) ∨ (J.cl h x2 = 204 ∧ J.br (J.gv h (J.gv h (-1) 9) (J.w32 ((J.w32 ((J.w32 (Int.tdiv x0 100)) * 100)) - x0))))) ∧ J.rg (J.w32 (x5 + (-1))) (J.ln h x2)) ∧ ((J.isA (J.cl h (J.gv (J.sv h x2 (J.w32 (x5 + (-1))) (J.gv h (J.gv h (-1) 9) (J.w32 ((J.w32 ((J.w32 (Int.tdiv x0 100)) * 100)) - x0)))) (-1) 10)) 3 = true ∧ J.rg (J.w32 ((J.w32 ((J.w32 (Int.tdiv x0 100)) * 100)) - x0)) (J.ln h (J.gv (J.sv h x2 (J.w32 (x5 + (-1))) (J.gv h (J.gv h (-1) 9) (J.w32 ((J.w32 ((J.w32 (Int.tdiv x0 100)) * 100)) - x0)))) (-1) 10))) ∧ ((((J.cl h x2 = 203 ∧ J.zo (J.gv (J.sv h x2 (J.w32 (x5 + (-1))) (J.gv h (J.gv h (-1) 9) (J.w32 ((J.w32 ((J.w32 (Int.tdiv x0 100)) * 100)) - x0)))) (J.gv (J.sv h x2 (J.w32 (x5 + (-1))) (J.gv h (J.gv h (-1) 9) (J.w32 ((J.w32 ((J.w32 (Int.tdiv x0 100)) * 100)) - x0)))) (-1) 10) (J.w32 ((J.w32 ((J.w32 (Int.tdiv x0 100)) * 100)) - x0)))) ∨ (J.cl h x2 = 204 ∧ J.br (J.gv (J.sv h x2 (J.w32 (x5 + (-1))) (J.gv h (J.gv h (-1) 9) (J.w32 ((J.w32 ((J.w32 (Int.tdiv x0 100)) * 100)) - x0)))) (J.gv (J.sv h x2 (J.w32 (x5 + (-1))) (J.gv h (J.gv h (-1) 9) (J.w32 ((J.w32 ((J.w32 (Int.tdiv x0 100)) * 100)) - x0)))) (-1) 10) (J.w32 ((J.w32 ((J.w32 (Int.tdiv x0 100)) * 100)) - x0))))) ∧ J.rg (J.w32 ((J.w32 (x5 + (-1))) + (-1))) (J.ln h x2)) ∧ (J.WP d 108 22 [J.I (J.w32 (Int.tdiv x0 100)), J.I x1, J.R x2, J.I (J.w32 (Int.tdiv x0 100)), J.I (J.w32 ((J.w32 ((J.w32 (Int.tdiv x0 100)) * 100)) - x0)), J.I (J.w32 ((J.w32 (x5 + (-1))) + (-1))), J.I x6] [] (J.sv (J.sv h x2 (J.w32 (x5 + (-1))) (J.gv h (J.gv h (-1) 9) (J.w32 ((J.w32 ((J.w32 (Int.tdiv x0 100)) * 100)) - x0)))) x2 (J.w32 ((J.w32 (x5 + (-1))) + (-1))) (J.gv (J.sv h x2 (J.w32 (x5 + (-1))) (J.gv h (J.gv h (-1) 9) (J.w32 ((J.w32 ((J.w32 (Int.tdiv x0 100)) * 100)) - x0)))) (J.gv (J.sv h x2 (J.w32 (x5 + (-1))) (J.gv h (J.gv h (-1) 9) (J.w32 ((J.w32 ((J.w32 (Int.tdiv x0 100)) * 100)) - x0)))) (-1) 10) (J.w32 ((J.w32 ((J.w32 (Int.tdiv x0 100)) * 100)) - x0)))) Q)))))) else ((J.isA (J.cl h (J.gv h (-1) 9)) 3 = true ∧ J.rg (J.w32 (-x0)) (J.ln h (J.gv h (-1) 9))) ∧ ((((J.cl h x2 = 203 ∧ J.zo (J.gv h (J.gv h (-1) 9) (J.w32 (-x0)))) ∨ (J.cl h x2 = 204 ∧ J.br (J.gv h (J.gv h (-1) 9) (J.w32 (-x0))))) ∧ J.rg (J.w32 (x5 + (-1))) (J.ln h x2)) ∧ (if x0 < (-9) then ((J.isA (J.cl h (J.gv (J.sv h x2 (J.w32 (x5 + (-1))) (J.gv h (J.gv h (-1) 9) (J.w32 (-x0)))) (-1) 10)) 3 = true ∧ J.rg (J.w32 (-x0)) (J.ln h (J.gv (J.sv h x2 (J.w32 (x5 + (-1))) (J.gv h (J.gv h (-1) 9) (J.w32 (-x0)))) (-1) 10))) ∧ ((((J.cl h x2 = 203 ∧ J.zo (J.gv (J.sv h x2 (J.w32 (x5 + (-1))) (J.gv h (J.gv h (-1) 9) (J.w32 (-x0)))) (J.gv (J.sv h x2 (J.w32 (x5 + (-1))) (J.gv h (J.gv h (-1) 9) (J.w32 (-x0)))) (-1) 10) (J.w32 (-x0)))) ∨ (J.cl h x2 = 204 ∧ J.br (J.gv (J.sv h x2 (J.w32 (x5 + (-1))) (J.gv h (J.gv h (-1) 9) (J.w32 (-x0)))) (J.gv (J.sv h x2 (J.w32 (x5 + (-1))) (J.gv h (J.gv h (-1) 9) (J.w32 (-x0)))) (-1) 10) (J.w32 (-x0))))) ∧ J.rg (J.w32 ((J.w32 (x5 + (-1))) + (-1))) (J.ln h x2)) ∧ (J.WP d 108 104 [J.I x0, J.I x1, J.R x2, v3, v4, J.I (J.w32 ((J.w32 (x5 + (-1))) + (-1))), J.I x6] [] (J.sv (J.sv h x2 (J.w32 (x5 + (-1))) (J.gv h (J.gv h (-1) 9) (J.w32 (-x0)))) x2 (J.w32 ((J.w32 (x5 + (-1))) + (-1))) (J.gv (J.sv h x2 (J.w32 (x5 + (-1))) (J.gv h (J.gv h (-1) 9) (J.w32 (-x0)))) (J.gv (J.sv h x2 (J.w32 (x5 + (-1))) (J.gv h (J.gv h (-1) 9) (J.w32 (-x0)))) (-1) 10) (J.w32 (-x0)))) Q))) else (J.WP d 108 104 [J.I x0, J.I x1, J.R x2, v3, v4, J.I (J.w32 (x5 + (-1))), J.I x6] [] (J.sv h x2 (J.w32 (x5 + (-1))) (J.gv h (J.gv h (-1) 9) (J.w32 (-x0)))) Q)))) := by
  refine (J.r_iload i108_22 rfl).trans ?_
  refine (J.r_iconst i108_23).trans ?_
  refine (J.r_icgt i108_25).trans (J.ite2 ?_ ?_)
  · refine (J.r_iload i108_28 rfl).trans ?_
    refine (J.r_iconst i108_29).trans ?_
    refine (J.r_idiv i108_31).trans (and_congr_right fun q0 => ?_)
    refine (J.r_istore i108_32 (Nat.le_of_ble_eq_true rfl) rfl).trans ?_
    refine (J.r_iload i108_33 rfl).trans ?_
    refine (J.r_iconst i108_34).trans ?_
    refine (J.r_imul i108_36).trans ?_
    refine (J.r_iload i108_37 rfl).trans ?_
    refine (J.r_isub i108_38).trans ?_
    refine (J.r_istore i108_39 (Nat.le_of_ble_eq_true rfl) rfl).trans ?_
    refine (J.r_iload i108_41 rfl).trans ?_
    refine (J.r_istore i108_42 (Nat.le_of_ble_eq_true rfl) rfl).trans ?_
    refine (J.r_aload i108_43 rfl).trans ?_
    refine (J.r_iinc i108_44 rfl rfl).trans ?_
    refine (J.r_iload i108_47 rfl).trans ?_
    refine (J.r_getsR i108_49).trans ?_
    refine (J.r_iload i108_52 rfl).trans ?_
    refine (J.r_baload i108_54).trans (and_congr_right fun q1 => ?_)
    refine (J.r_bastore i108_55).trans (and_congr_right fun q2 => ?_)
    refine (J.r_aload i108_56 rfl).trans ?_
    refine (J.r_iinc i108_57 rfl rfl).trans ?_
    refine (J.r_iload i108_60 rfl).trans ?_
    refine (J.r_getsR i108_62).trans ?_
    refine (J.r_iload i108_65 rfl).trans ?_
    refine (J.r_baload i108_67).trans (and_congr_right fun q3 => ?_)
    refine (J.r_bastore i108_68).trans (and_congr_right fun q4 => ?_)
    refine (J.r_goto i108_69).trans ?_
    exact Iff.rfl
  · refine (J.r_aload i108_72 rfl).trans ?_
    refine (J.r_iinc i108_73 rfl rfl).trans ?_
    refine (J.r_iload i108_76 rfl).trans ?_
    refine (J.r_getsR i108_78).trans ?_
    refine (J.r_iload i108_81 rfl).trans ?_
    refine (J.r_ineg i108_82).trans ?_
    refine (J.r_baload i108_83).trans (and_congr_right fun q0 => ?_)
    refine (J.r_bastore i108_84).trans (and_congr_right fun q1 => ?_)
    refine (J.r_iload i108_85 rfl).trans ?_
    refine (J.r_iconst i108_86).trans ?_
    refine (J.r_icge i108_88).trans (J.ite2 ?_ ?_)
    · refine (J.r_aload i108_91 rfl).trans ?_
      refine (J.r_iinc i108_92 rfl rfl).trans ?_
      refine (J.r_iload i108_95 rfl).trans ?_
      refine (J.r_getsR i108_97).trans ?_
      refine (J.r_iload i108_100 rfl).trans ?_
      refine (J.r_ineg i108_101).trans ?_
      refine (J.r_baload i108_102).trans (and_congr_right fun q2 => ?_)
      refine (J.r_bastore i108_103).trans (and_congr_right fun q3 => ?_)
      exact Iff.rfl
    · exact Iff.rfl
theorem b108_104 (d : Nat) (h : J.H) (Q : J.O → J.H → Prop) (x0 x1 x2 x5 x6 : Int) (v3 v4 : J.V) : J.WP d 108 104 [J.I x0, J.I x1, J.R x2, v3, v4, J.I x5, J.I x6] [] h Q ↔ if x6 = 0 then (J.WP d 108 118 [J.I x0, J.I x1, J.R x2, v3, v4, J.I x5, J.I x6] [] h Q) else ((((J.cl h x2 = 203 ∧ J.zo 45) ∨ (J.cl h x2 = 204 ∧ J.br 45)) ∧ J.rg (J.w32 (x5 + (-1))) (J.ln h x2)) ∧ (J.WP d 108 118 [J.I x0, J.I x1, J.R x2, v3, v4, J.I (J.w32 (x5 + (-1))), J.I x6] [] (J.sv h x2 (J.w32 (x5 + (-1))) 45) Q)) := by
  refine (J.r_iload i108_104 rfl).trans ?_
  refine (J.r_ifeq i108_106).trans (J.ite2 ?_ ?_)
  · exact Iff.rfl
  · refine (J.r_aload i108_109 rfl).trans ?_
    refine (J.r_iinc i108_110 rfl rfl).trans ?_
    refine (J.r_iload i108_113 rfl).trans ?_
    refine (J.r_iconst i108_115).trans ?_
    refine (J.r_bastore i108_117).trans (and_congr_right fun q0 => ?_)
    exact Iff.rfl
theorem b108_118 (d : Nat) (h : J.H) (Q : J.O → J.H → Prop) (x0 x1 x2 x5 x6 : Int) (v3 v4 : J.V) : J.WP d 108 118 [J.I x0, J.I x1, J.R x2, v3, v4, J.I x5, J.I x6] [] h Q ↔ Q (Sum.inl (some (J.I x5))) h := by
  refine (J.r_iload i108_118 rfl).trans ?_
  exact J.r_iret i108_120 rfl
/-! 111 java/lang/StringBuilder.toString()Ljava/lang/String; -/
theorem i111_0 : J.cd 111 0 = some (.new 18, 3, 23, 11, 213) := by decide +kernel
theorem i111_3 : J.cd 111 3 = some (.dup, 4, 3, 0, 0) := by decide +kernel
theorem i111_4 : J.cd 111 4 = some (.aload 0, 5, 0, 0, 0) := by decide +kernel
theorem i111_5 : J.cd 111 5 = some (.invokespecial 137, 8, 112, 2, 2) := by decide +kernel
theorem i111_8 : J.cd 111 8 = some (.areturn, 9, 8, 0, 0) := by decide +kernel
theorem b111_0 (d : Nat) (h : J.H) (Q : J.O → J.H → Prop) (x0 : Int) : J.WP d 111 0 [J.R x0] [] h Q ↔ (J.us h + (11 : Nat) ≤ J.UM) ∧ (J.ik (J.cl (J.nw h 23 0 (11 : Nat)) (J.nx h)) = true ∧ 0 < d ∧ J.WP (d - 1) 112 0 [J.R (J.nx h), J.R x0] [] (J.nw h 23 0 (11 : Nat)) (J.af J.WP d 111 5 8 [J.R x0] [J.R (J.nx h)] Q)) := by
  refine (J.r_new i111_0).trans (and_congr_right fun q0 => ?_)
  refine (J.r_dupR i111_3).trans ?_
  refine (J.r_aload i111_4 rfl).trans ?_
  exact J.r_spec i111_5 (by decide) ⟨by decide, Nat.le_of_ble_eq_true rfl⟩ rfl rfl (Nat.le_of_ble_eq_true rfl)
theorem b111_8 (d : Nat) (h : J.H) (Q : J.O → J.H → Prop) (x0 s0 : Int) : J.WP d 111 8 [J.R x0] [J.R s0] h Q ↔ Q (Sum.inl (some (J.R s0))) h := by
  exact J.r_aret i111_8 rfl
/-! 112 java/lang/String.<init>(Ljava/lang/StringBuilder;)V -/
theorem i112_0 : J.cd 112 0 = some (.aload 0, 1, 0, 0, 0) := by decide +kernel
theorem i112_1 : J.cd 112 1 = some (.aload 1, 2, 0, 0, 0) := by decide +kernel
theorem i112_2 : J.cd 112 2 = some (.aconst_null, 3, 2, 0, 0) := by decide +kernel
theorem i112_3 : J.cd 112 3 = some (.invokespecial 489, 6, 113, 3, 5) := by decide +kernel
theorem i112_6 : J.cd 112 6 = some (.return_, 7, 6, 0, 0) := by decide +kernel
theorem b112_0 (d : Nat) (h : J.H) (Q : J.O → J.H → Prop) (x0 x1 : Int) : J.WP d 112 0 [J.R x0, J.R x1] [] h Q ↔ J.ik (J.cl h x0) = true ∧ 0 < d ∧ J.WP (d - 1) 113 0 [J.R x0, J.R x1, J.R 0, J.U, J.U] [] h (J.af J.WP d 112 3 6 [J.R x0, J.R x1] [] Q) := by
  refine (J.r_aload i112_0 rfl).trans ?_
  refine (J.r_aload i112_1 rfl).trans ?_
  refine (J.r_null i112_2).trans ?_
  exact J.r_spec i112_3 (by decide) ⟨by decide, Nat.le_of_ble_eq_true rfl⟩ rfl rfl (Nat.le_of_ble_eq_true rfl)
theorem b112_6 (d : Nat) (h : J.H) (Q : J.O → J.H → Prop) (x0 x1 : Int) : J.WP d 112 6 [J.R x0, J.R x1] [] h Q ↔ Q (Sum.inl none) h := by
  exact J.r_ret i112_6 rfl
/-! 113 java/lang/String.<init>(Ljava/lang/AbstractStringBuilder;Ljava/lang/Void;)V -/
theorem i113_0 : J.cd 113 0 = some (.aload 0, 1, 0, 0, 0) := by decide +kernel
theorem i113_1 : J.cd 113 1 = some (.invokespecial 1, 4, 2005, 1, 0) := by decide +kernel
theorem i113_4 : J.cd 113 4 = some (.aload 1, 5, 0, 0, 0) := by decide +kernel
theorem i113_5 : J.cd 113 5 = some (.invokevirtual 552, 8, 208, 0, 0) := by decide +kernel
theorem i113_8 : J.cd 113 8 = some (.astore 3, 9, 0, 0, 0) := by decide +kernel
theorem i113_9 : J.cd 113 9 = some (.aload 1, 10, 0, 0, 0) := by decide +kernel
theorem i113_10 : J.cd 113 10 = some (.invokevirtual 549, 13, 196, 0, 0) := by decide +kernel
theorem i113_13 : J.cd 113 13 = some (.istore 4, 15, 13, 0, 0) := by decide +kernel
theorem i113_15 : J.cd 113 15 = some (.aload 1, 16, 0, 0, 0) := by decide +kernel
theorem i113_16 : J.cd 113 16 = some (.invokevirtual 1047, 19, 201, 0, 0) := by decide +kernel
theorem i113_19 : J.cd 113 19 = some (.ifCond .eq 22, 22, 41, 0, 0) := by decide +kernel
theorem i113_22 : J.cd 113 22 = some (.aload 0, 23, 0, 0, 0) := by decide +kernel
theorem i113_23 : J.cd 113 23 = some (.iconst 0, 24, 23, 0, 0) := by decide +kernel
theorem i113_24 : J.cd 113 24 = some (.putfield 15, 27, 171, 23, 4) := by decide +kernel
theorem i113_27 : J.cd 113 27 = some (.aload 0, 28, 0, 0, 0) := by decide +kernel
theorem i113_28 : J.cd 113 28 = some (.aload 3, 29, 0, 0, 0) := by decide +kernel
theorem i113_29 : J.cd 113 29 = some (.iconst 0, 30, 29, 0, 0) := by decide +kernel
theorem i113_30 : J.cd 113 30 = some (.iload 4, 32, 30, 0, 0) := by decide +kernel
theorem i113_32 : J.cd 113 32 = some (.invokestatic 54, 35, 117, 3, 3) := by decide +kernel
theorem i113_35 : J.cd 113 35 = some (.putfield 9, 38, 170, 23, 2) := by decide +kernel
theorem i113_38 : J.cd 113 38 = some (.goto 59, 41, 97, 0, 0) := by decide +kernel
theorem i113_41 : J.cd 113 41 = some (.getstatic 38, 44, 0, 0, 3) := by decide +kernel
theorem i113_44 : J.cd 113 44 = some (.ifCond .eq 35, 47, 79, 0, 0) := by decide +kernel
theorem i113_47 : J.cd 113 47 = some (.aload 1, 48, 0, 0, 0) := by decide +kernel
theorem i113_48 : J.cd 113 48 = some (.getfield 1048, 51, 9, 86, 3) := by decide +kernel
theorem i113_51 : J.cd 113 51 = some (.ifCond .eq 28, 54, 79, 0, 0) := by decide +kernel
theorem i113_54 : J.cd 113 54 = some (.aload 0, 55, 0, 0, 0) := by decide +kernel
theorem i113_55 : J.cd 113 55 = some (.aload 3, 56, 0, 0, 0) := by decide +kernel
theorem i113_56 : J.cd 113 56 = some (.iconst 0, 57, 56, 0, 0) := by decide +kernel
theorem i113_57 : J.cd 113 57 = some (.iload 4, 59, 57, 0, 0) := by decide +kernel
theorem i113_59 : J.cd 113 59 = some (.invokestatic 1051, 62, 124, 3, 6) := by decide +kernel
theorem i113_62 : J.cd 113 62 = some (.putfield 9, 65, 170, 23, 2) := by decide +kernel
theorem i113_65 : J.cd 113 65 = some (.aload 0, 66, 0, 0, 0) := by decide +kernel
theorem i113_66 : J.cd 113 66 = some (.aload 0, 67, 0, 0, 0) := by decide +kernel
theorem i113_67 : J.cd 113 67 = some (.getfield 9, 70, 170, 23, 2) := by decide +kernel
theorem i113_70 : J.cd 113 70 = some (.iload 4, 72, 70, 0, 0) := by decide +kernel
theorem i113_72 : J.cd 113 72 = some (.invokestatic 47, 75, 127, 2, 2) := by decide +kernel
theorem i113_75 : J.cd 113 75 = some (.putfield 15, 78, 171, 23, 4) := by decide +kernel
theorem i113_78 : J.cd 113 78 = some (.return_, 79, 78, 0, 0) := by decide +kernel
theorem i113_79 : J.cd 113 79 = some (.aload 0, 80, 0, 0, 0) := by decide +kernel
theorem i113_80 : J.cd 113 80 = some (.iconst 1, 81, 80, 0, 0) := by decide +kernel
theorem i113_81 : J.cd 113 81 = some (.putfield 15, 84, 171, 23, 4) := by decide +kernel
theorem i113_84 : J.cd 113 84 = some (.aload 0, 85, 0, 0, 0) := by decide +kernel
theorem i113_85 : J.cd 113 85 = some (.aload 3, 86, 0, 0, 0) := by decide +kernel
theorem i113_86 : J.cd 113 86 = some (.iconst 0, 87, 86, 0, 0) := by decide +kernel
theorem i113_87 : J.cd 113 87 = some (.iload 4, 89, 87, 0, 0) := by decide +kernel
theorem i113_89 : J.cd 113 89 = some (.iconst 1, 90, 89, 0, 0) := by decide +kernel
theorem i113_90 : J.cd 113 90 = some (.ishl, 91, 90, 0, 0) := by decide +kernel
theorem i113_91 : J.cd 113 91 = some (.invokestatic 54, 94, 117, 3, 3) := by decide +kernel
theorem i113_94 : J.cd 113 94 = some (.putfield 9, 97, 170, 23, 2) := by decide +kernel
theorem i113_97 : J.cd 113 97 = some (.return_, 98, 97, 0, 0) := by decide +kernel
theorem b113_0 (d : Nat) (h : J.H) (Q : J.O → J.H → Prop) (x0 x1 x2 : Int) : J.WP d 113 0 [J.R x0, J.R x1, J.R x2, J.U, J.U] [] h Q ↔ (J.ik (J.cl h x0) = true) ∧ (J.cl h x1 = 4 ∧ 0 < d ∧ J.WP (d - 1) 114 0 [J.R x1] [] h (J.af J.WP d 113 5 8 [J.R x0, J.R x1, J.R x2, J.U, J.U] [] Q)) := by
  refine (J.r_aload i113_0 rfl).trans ?_
  refine (J.r_obj i113_1).trans (and_congr_right fun q0 => ?_)
  refine (J.r_aload i113_4 rfl).trans ?_
  exact J.r_virt1 (k2 := 114) (m := 1) 4 i113_5 rfl (by decide +kernel) (by decide) rfl (Nat.le_of_ble_eq_true rfl)
theorem b113_8 (d : Nat) (h : J.H) (Q : J.O → J.H → Prop) (x0 x1 x2 s0 : Int) : J.WP d 113 8 [J.R x0, J.R x1, J.R x2, J.U, J.U] [J.R s0] h Q ↔ J.cl h x1 = 4 ∧ 0 < d ∧ J.WP (d - 1) 115 0 [J.R x1] [] h (J.af J.WP d 113 10 13 [J.R x0, J.R x1, J.R x2, J.R s0, J.U] [] Q) := by
  refine (J.r_astore i113_8 (Nat.le_of_ble_eq_true rfl) rfl).trans ?_
  refine (J.r_aload i113_9 rfl).trans ?_
  exact J.r_virt1 (k2 := 115) (m := 1) 4 i113_10 rfl (by decide +kernel) (by decide) rfl (Nat.le_of_ble_eq_true rfl)
theorem b113_13 (d : Nat) (h : J.H) (Q : J.O → J.H → Prop) (x0 x1 x2 x3 s0 : Int) : J.WP d 113 13 [J.R x0, J.R x1, J.R x2, J.R x3, J.U] [J.I s0] h Q ↔ J.cl h x1 = 4 ∧ 0 < d ∧ J.WP (d - 1) 81 0 [J.R x1] [] h (J.af J.WP d 113 16 19 [J.R x0, J.R x1, J.R x2, J.R x3, J.I s0] [] Q) := by
  refine (J.r_istore i113_13 (Nat.le_of_ble_eq_true rfl) rfl).trans ?_
  refine (J.r_aload i113_15 rfl).trans ?_
  exact J.r_virt1 (k2 := 81) (m := 1) 4 i113_16 rfl (by decide +kernel) (by decide) rfl (Nat.le_of_ble_eq_true rfl)
theorem b113_19 (d : Nat) (h : J.H) (Q : J.O → J.H → Prop) (x0 x1 x2 x3 x4 s0 : Int) : J.WP d 113 19 [J.R x0, J.R x1, J.R x2, J.R x3, J.I x4] [J.I s0] h Q ↔ if s0 = 0 then (if (J.gv h (-1) 0) = 0 then (J.WP d 113 79 [J.R x0, J.R x1, J.R x2, J.R x3, J.I x4] [] h Q) else ((J.sb (J.cl h x1) 86 = true) ∧ (if (J.gv h x1 9) = 0 then (J.WP d 113 79 [J.R x0, J.R x1, J.R x2, J.R x3, J.I x4] [] h Q) else (0 < d ∧ J.WP (d - 1) 124 0 [J.R x3, J.I 0, J.I x4, J.U, J.U, J.U] [] h (J.af J.WP d 113 59 62 [J.R x0, J.R x1, J.R x2, J.R x3, J.I x4] [J.R x0] Q))))) else ((J.sb (J.cl h x0) 23 = true ∧ J.cl h x0 < 300 ∧ J.br 0) ∧ (0 < d ∧ J.WP (d - 1) 117 0 [J.R x3, J.I 0, J.I x4] [] (J.sv h x0 171 0) (J.af J.WP d 113 32 35 [J.R x0, J.R x1, J.R x2, J.R x3, J.I x4] [J.R x0] Q))) := by
  refine (J.r_ifeq i113_19).trans (J.ite2 ?_ ?_)
  · refine (J.r_getsZ i113_41).trans ?_
    refine (J.r_ifeq i113_44).trans (J.ite2 ?_ ?_)
    · exact Iff.rfl
    · refine (J.r_aload i113_47 rfl).trans ?_
      refine (J.r_getZ i113_48).trans (and_congr_right fun q0 => ?_)
      refine (J.r_ifeq i113_51).trans (J.ite2 ?_ ?_)
      · exact Iff.rfl
      · refine (J.r_aload i113_54 rfl).trans ?_
        refine (J.r_aload i113_55 rfl).trans ?_
        refine (J.r_iconst i113_56).trans ?_
        refine (J.r_iload i113_57 rfl).trans ?_
        exact J.r_stat i113_59 (by decide) (Nat.le_of_ble_eq_true rfl) rfl rfl (Nat.le_of_ble_eq_true rfl)
  · refine (J.r_aload i113_22 rfl).trans ?_
    refine (J.r_iconst i113_23).trans ?_
    refine (J.r_putB i113_24).trans (and_congr_right fun q0 => ?_)
    refine (J.r_aload i113_27 rfl).trans ?_
    refine (J.r_aload i113_28 rfl).trans ?_
    refine (J.r_iconst i113_29).trans ?_
    refine (J.r_iload i113_30 rfl).trans ?_
    exact J.r_stat i113_32 (by decide) (Nat.le_of_ble_eq_true rfl) rfl rfl (Nat.le_of_ble_eq_true rfl)
theorem b113_35 (d : Nat) (h : J.H) (Q : J.O → J.H → Prop) (x0 x1 x2 x3 x4 s0 s1 : Int) : J.WP d 113 35 [J.R x0, J.R x1, J.R x2, J.R x3, J.I x4] [J.R s1, J.R s0] h Q ↔ (J.sb (J.cl h s0) 23 = true ∧ J.cl h s0 < 300) ∧ (J.WP d 113 97 [J.R x0, J.R x1, J.R x2, J.R x3, J.I x4] [] (J.sv h s0 170 s1) Q) := by
  refine (J.r_putR i113_35).trans (and_congr_right fun q0 => ?_)
  refine (J.r_goto i113_38).trans ?_
  exact Iff.rfl
theorem b113_62 (d : Nat) (h : J.H) (Q : J.O → J.H → Prop) (x0 x1 x2 x3 x4 s0 s1 : Int) : J.WP d 113 62 [J.R x0, J.R x1, J.R x2, J.R x3, J.I x4] [J.R s1, J.R s0] h Q ↔ (J.sb (J.cl h s0) 23 = true ∧ J.cl h s0 < 300) ∧ ((J.sb (J.cl h x0) 23 = true) ∧ (0 < d ∧ J.WP (d - 1) 127 0 [J.R (J.gv (J.sv h s0 170 s1) x0 170), J.I x4] [] (J.sv h s0 170 s1) (J.af J.WP d 113 72 75 [J.R x0, J.R x1, J.R x2, J.R x3, J.I x4] [J.R x0] Q))) := by
  refine (J.r_putR i113_62).trans (and_congr_right fun q0 => ?_)
  refine (J.r_aload i113_65 rfl).trans ?_
  refine (J.r_aload i113_66 rfl).trans ?_
  refine (J.r_getR i113_67).trans (and_congr_right fun q1 => ?_)
  refine (J.r_iload i113_70 rfl).trans ?_
  exact J.r_stat i113_72 (by decide) (Nat.le_of_ble_eq_true rfl) rfl rfl (Nat.le_of_ble_eq_true rfl)
theorem b113_75 (d : Nat) (h : J.H) (Q : J.O → J.H → Prop) (x0 x1 x2 x3 x4 s0 s1 : Int) : J.WP d 113 75 [J.R x0, J.R x1, J.R x2, J.R x3, J.I x4] [J.I s1, J.R s0] h Q ↔ (J.sb (J.cl h s0) 23 = true ∧ J.cl h s0 < 300 ∧ J.br s1) ∧ (Q (Sum.inl none) (J.sv h s0 171 s1)) := by
  refine (J.r_putB i113_75).trans (and_congr_right fun q0 => ?_)
  exact J.r_ret i113_78 rfl
theorem b113_79 (d : Nat) (h : J.H) (Q : J.O → J.H → Prop) (x0 x1 x2 x3 x4 : Int) : J.WP d 113 79 [J.R x0, J.R x1, J.R x2, J.R x3, J.I x4] [] h Q ↔ (J.sb (J.cl h x0) 23 = true ∧ J.cl h x0 < 300 ∧ J.br 1) ∧ (0 < d ∧ J.WP (d - 1) 117 0 [J.R x3, J.I 0, J.I (J.shl32 x4 1)] [] (J.sv h x0 171 1) (J.af J.WP d 113 91 94 [J.R x0, J.R x1, J.R x2, J.R x3, J.I x4] [J.R x0] Q)) := by
  refine (J.r_aload i113_79 rfl).trans ?_
  refine (J.r_iconst i113_80).trans ?_
  refine (J.r_putB i113_81).trans (and_congr_right fun q0 => ?_)
  refine (J.r_aload i113_84 rfl).trans ?_
  refine (J.r_aload i113_85 rfl).trans ?_
  refine (J.r_iconst i113_86).trans ?_
  refine (J.r_iload i113_87 rfl).trans ?_
  refine (J.r_iconst i113_89).trans ?_
  refine (J.r_ishl i113_90).trans ?_
  exact J.r_stat i113_91 (by decide) (Nat.le_of_ble_eq_true rfl) rfl rfl (Nat.le_of_ble_eq_true rfl)
theorem b113_94 (d : Nat) (h : J.H) (Q : J.O → J.H → Prop) (x0 x1 x2 x3 x4 s0 s1 : Int) : J.WP d 113 94 [J.R x0, J.R x1, J.R x2, J.R x3, J.I x4] [J.R s1, J.R s0] h Q ↔ (J.sb (J.cl h s0) 23 = true ∧ J.cl h s0 < 300) ∧ (J.WP d 113 97 [J.R x0, J.R x1, J.R x2, J.R x3, J.I x4] [] (J.sv h s0 170 s1) Q) := by
  refine (J.r_putR i113_94).trans (and_congr_right fun q0 => ?_)
  exact Iff.rfl
theorem b113_97 (d : Nat) (h : J.H) (Q : J.O → J.H → Prop) (x0 x1 x2 x3 x4 : Int) : J.WP d 113 97 [J.R x0, J.R x1, J.R x2, J.R x3, J.I x4] [] h Q ↔ Q (Sum.inl none) h := by
  exact J.r_ret i113_97 rfl
/-! 114 java/lang/AbstractStringBuilder.getValue()[B -/
theorem i114_0 : J.cd 114 0 = some (.aload 0, 1, 0, 0, 0) := by decide +kernel
theorem i114_1 : J.cd 114 1 = some (.getfield 15, 4, 7, 86, 2) := by decide +kernel
theorem i114_4 : J.cd 114 4 = some (.areturn, 5, 4, 0, 0) := by decide +kernel
theorem b114_0 (d : Nat) (h : J.H) (Q : J.O → J.H → Prop) (x0 : Int) : J.WP d 114 0 [J.R x0] [] h Q ↔ (J.sb (J.cl h x0) 86 = true) ∧ (Q (Sum.inl (some (J.R (J.gv h x0 7)))) h) := by
  refine (J.r_aload i114_0 rfl).trans ?_
  refine (J.r_getR i114_1).trans (and_congr_right fun q0 => ?_)
  exact J.r_aret i114_4 rfl
/-! 115 java/lang/StringBuilder.length()I -/
theorem i115_0 : J.cd 115 0 = some (.aload 0, 1, 0, 0, 0) := by decide +kernel
theorem i115_1 : J.cd 115 1 = some (.invokespecial 343, 4, 116, 1, 1) := by decide +kernel
theorem i115_4 : J.cd 115 4 = some (.ireturn, 5, 0, 0, 0) := by decide +kernel
theorem b115_0 (d : Nat) (h : J.H) (Q : J.O → J.H → Prop) (x0 : Int) : J.WP d 115 0 [J.R x0] [] h Q ↔ J.ik (J.cl h x0) = true ∧ 0 < d ∧ J.WP (d - 1) 116 0 [J.R x0] [] h (J.af J.WP d 115 1 4 [J.R x0] [] Q) := by
  refine (J.r_aload i115_0 rfl).trans ?_
  exact J.r_spec i115_1 (by decide) ⟨by decide, Nat.le_of_ble_eq_true rfl⟩ rfl rfl (Nat.le_of_ble_eq_true rfl)
theorem b115_4 (d : Nat) (h : J.H) (Q : J.O → J.H → Prop) (x0 s0 : Int) : J.WP d 115 4 [J.R x0] [J.I s0] h Q ↔ Q (Sum.inl (some (J.I s0))) h := by
  exact J.r_iret i115_4 rfl
/-! 116 java/lang/AbstractStringBuilder.length()I -/
theorem i116_0 : J.cd 116 0 = some (.aload 0, 1, 0, 0, 0) := by decide +kernel
theorem i116_1 : J.cd 116 1 = some (.getfield 79, 4, 10, 86, 0) := by decide +kernel
theorem i116_4 : J.cd 116 4 = some (.ireturn, 5, 0, 0, 0) := by decide +kernel
theorem b116_0 (d : Nat) (h : J.H) (Q : J.O → J.H → Prop) (x0 : Int) : J.WP d 116 0 [J.R x0] [] h Q ↔ (J.sb (J.cl h x0) 86 = true) ∧ (Q (Sum.inl (some (J.I (J.gv h x0 10)))) h) := by
  refine (J.r_aload i116_0 rfl).trans ?_
  refine (J.r_getI i116_1).trans (and_congr_right fun q0 => ?_)
  exact J.r_iret i116_4 rfl
/-! 117 java/util/Arrays.copyOfRange([BII)[B -/
theorem i117_0 : J.cd 117 0 = some (.iload 1, 1, 0, 0, 0) := by decide +kernel
theorem i117_1 : J.cd 117 1 = some (.ifCond .ne 9, 4, 10, 0, 0) := by decide +kernel
theorem i117_4 : J.cd 117 4 = some (.iload 2, 5, 0, 0, 0) := by decide +kernel
theorem i117_5 : J.cd 117 5 = some (.aload 0, 6, 0, 0, 0) := by decide +kernel
theorem i117_6 : J.cd 117 6 = some (.arraylength, 7, 6, 0, 0) := by decide +kernel
theorem i117_7 : J.cd 117 7 = some (.if_icmp .eq 10, 10, 17, 0, 0) := by decide +kernel
theorem i117_10 : J.cd 117 10 = some (.aload 0, 11, 0, 0, 0) := by decide +kernel
theorem i117_11 : J.cd 117 11 = some (.iload 1, 12, 0, 0, 0) := by decide +kernel
theorem i117_12 : J.cd 117 12 = some (.iload 2, 13, 0, 0, 0) := by decide +kernel
theorem i117_13 : J.cd 117 13 = some (.invokestatic 339, 16, 118, 3, 5) := by decide +kernel
theorem i117_16 : J.cd 117 16 = some (.areturn, 17, 16, 0, 0) := by decide +kernel
theorem i117_17 : J.cd 117 17 = some (.aload 0, 18, 0, 0, 0) := by decide +kernel
theorem i117_18 : J.cd 117 18 = some (.invokevirtual 310, 21, 9004, 0, 0) := by decide +kernel
theorem i117_21 : J.cd 117 21 = some (.checkcast 311, 24, 204, 0, 0) := by decide +kernel
theorem i117_24 : J.cd 117 24 = some (.areturn, 25, 24, 0, 0) := by decide +kernel
theorem b117_0 (d : Nat) (h : J.H) (Q : J.O → J.H → Prop) (x0 x1 x2 : Int) : J.WP d 117 0 [J.R x0, J.I x1, J.I x2] [] h Q ↔ if x1 = 0 then ((J.ia (J.cl h x0) = true) ∧ (if x2 = (J.ln h x0) then ((J.cl h x0 = 204 ∧ J.us h + 7 + J.ln h x0 ≤ J.UM) ∧ ((J.no (J.nx h) ∨ J.sb (J.cl (J.nw h 204 (J.ln h x0) (7 + J.ln h x0)) (J.nx h)) 204 = true) ∧ (Q (Sum.inl (some (J.R (J.nx h)))) (J.cpy (J.nw h 204 (J.ln h x0) (7 + J.ln h x0)) x0 0 (J.nx h) 0 (J.ln h x0))))) else (J.WP d 117 10 [J.R x0, J.I x1, J.I x2] [] h Q))) else (J.WP d 117 10 [J.R x0, J.I x1, J.I x2] [] h Q) := by
  refine (J.r_iload i117_0 rfl).trans ?_
  refine (J.r_ifne i117_1).trans (J.ite2 ?_ ?_)
  · refine (J.r_iload i117_4 rfl).trans ?_
    refine (J.r_aload i117_5 rfl).trans ?_
    refine (J.r_alen i117_6).trans (and_congr_right fun q0 => ?_)
    refine (J.r_iceq i117_7).trans (J.ite2 ?_ ?_)
    · refine (J.r_aload i117_17 rfl).trans ?_
      refine (J.r_cloneB i117_18).trans (and_congr_right fun q1 => ?_)
      refine (J.r_cast i117_21).trans (and_congr_right fun q2 => ?_)
      exact J.r_aret i117_24 rfl
    · exact Iff.rfl
  · exact Iff.rfl
theorem b117_10 (d : Nat) (h : J.H) (Q : J.O → J.H → Prop) (x0 x1 x2 : Int) : J.WP d 117 10 [J.R x0, J.I x1, J.I x2] [] h Q ↔ 0 < d ∧ J.WP (d - 1) 118 0 [J.R x0, J.I x1, J.I x2, J.U, J.U] [] h (J.af J.WP d 117 13 16 [J.R x0, J.I x1, J.I x2] [] Q) := by
  refine (J.r_aload i117_10 rfl).trans ?_
  refine (J.r_iload i117_11 rfl).trans ?_
  refine (J.r_iload i117_12 rfl).trans ?_
  exact J.r_stat i117_13 (by decide) (Nat.le_of_ble_eq_true rfl) rfl rfl (Nat.le_of_ble_eq_true rfl)
theorem b117_16 (d : Nat) (h : J.H) (Q : J.O → J.H → Prop) (x0 x1 x2 s0 : Int) : J.WP d 117 16 [J.R x0, J.I x1, J.I x2] [J.R s0] h Q ↔ Q (Sum.inl (some (J.R s0))) h := by
  exact J.r_aret i117_16 rfl
/-! 118 java/util/Arrays.copyOfRangeByte([BII)[B -/
theorem i118_0 : J.cd 118 0 = some (.iload 1, 1, 0, 0, 0) := by decide +kernel
theorem i118_1 : J.cd 118 1 = some (.iload 2, 2, 0, 0, 0) := by decide +kernel
theorem i118_2 : J.cd 118 2 = some (.invokestatic 343, 5, 119, 2, 2) := by decide +kernel
theorem i118_5 : J.cd 118 5 = some (.iload 2, 6, 0, 0, 0) := by decide +kernel
theorem i118_6 : J.cd 118 6 = some (.iload 1, 7, 0, 0, 0) := by decide +kernel
theorem i118_7 : J.cd 118 7 = some (.isub, 8, 7, 0, 0) := by decide +kernel
theorem i118_8 : J.cd 118 8 = some (.istore 3, 9, 0, 0, 0) := by decide +kernel
theorem i118_9 : J.cd 118 9 = some (.iload 3, 10, 0, 0, 0) := by decide +kernel
theorem i118_10 : J.cd 118 10 = some (.newarray .byte, 12, 10, 0, 0) := by decide +kernel
theorem i118_12 : J.cd 118 12 = some (.astore 4, 14, 12, 0, 0) := by decide +kernel
theorem i118_14 : J.cd 118 14 = some (.aload 0, 15, 0, 0, 0) := by decide +kernel
theorem i118_15 : J.cd 118 15 = some (.iload 1, 16, 0, 0, 0) := by decide +kernel
theorem i118_16 : J.cd 118 16 = some (.aload 4, 18, 16, 0, 0) := by decide +kernel
theorem i118_18 : J.cd 118 18 = some (.iconst 0, 19, 18, 0, 0) := by decide +kernel
theorem i118_19 : J.cd 118 19 = some (.aload 0, 20, 0, 0, 0) := by decide +kernel
theorem i118_20 : J.cd 118 20 = some (.arraylength, 21, 20, 0, 0) := by decide +kernel
theorem i118_21 : J.cd 118 21 = some (.iload 1, 22, 0, 0, 0) := by decide +kernel
theorem i118_22 : J.cd 118 22 = some (.isub, 23, 22, 0, 0) := by decide +kernel
theorem i118_23 : J.cd 118 23 = some (.iload 3, 24, 0, 0, 0) := by decide +kernel
theorem i118_24 : J.cd 118 24 = some (.invokestatic 304, 27, 26, 2, 2) := by decide +kernel
theorem i118_27 : J.cd 118 27 = some (.invokestatic 150, 30, 2000, 5, 0) := by decide +kernel
theorem i118_30 : J.cd 118 30 = some (.aload 4, 32, 30, 0, 0) := by decide +kernel
theorem i118_32 : J.cd 118 32 = some (.areturn, 33, 32, 0, 0) := by decide +kernel
theorem b118_0 (d : Nat) (h : J.H) (Q : J.O → J.H → Prop) (x0 x1 x2 : Int) : J.WP d 118 0 [J.R x0, J.I x1, J.I x2, J.U, J.U] [] h Q ↔ 0 < d ∧ J.WP (d - 1) 119 0 [J.I x1, J.I x2] [] h (J.af J.WP d 118 2 5 [J.R x0, J.I x1, J.I x2, J.U, J.U] [] Q) := by
  refine (J.r_iload i118_0 rfl).trans ?_
  refine (J.r_iload i118_1 rfl).trans ?_
  exact J.r_stat i118_2 (by decide) (Nat.le_of_ble_eq_true rfl) rfl rfl (Nat.le_of_ble_eq_true rfl)
theorem b118_5 (d : Nat) (h : J.H) (Q : J.O → J.H → Prop) (x0 x1 x2 : Int) : J.WP d 118 5 [J.R x0, J.I x1, J.I x2, J.U, J.U] [] h Q ↔ (0 ≤ (J.w32 (x2 - x1)) ∧ J.us h + 7 + (J.w32 (x2 - x1)) ≤ J.UM) ∧ ((J.ia (J.cl (J.nw h 204 (J.w32 (x2 - x1)) (7 + (J.w32 (x2 - x1)))) x0) = true) ∧ (0 < d ∧ J.WP (d - 1) 26 0 [J.I (J.w32 ((J.ln (J.nw h 204 (J.w32 (x2 - x1)) (7 + (J.w32 (x2 - x1)))) x0) - x1)), J.I (J.w32 (x2 - x1))] [] (J.nw h 204 (J.w32 (x2 - x1)) (7 + (J.w32 (x2 - x1)))) (J.af J.WP d 118 24 27 [J.R x0, J.I x1, J.I x2, J.I (J.w32 (x2 - x1)), J.R (J.nx h)] [J.I 0, J.R (J.nx h), J.I x1, J.R x0] Q))) := by
  refine (J.r_iload i118_5 rfl).trans ?_
  refine (J.r_iload i118_6 rfl).trans ?_
  refine (J.r_isub i118_7).trans ?_
  refine (J.r_istore i118_8 (Nat.le_of_ble_eq_true rfl) rfl).trans ?_
  refine (J.r_iload i118_9 rfl).trans ?_
  refine (J.r_newarray i118_10).trans (and_congr_right fun q0 => ?_)
  refine (J.r_astore i118_12 (Nat.le_of_ble_eq_true rfl) rfl).trans ?_
  refine (J.r_aload i118_14 rfl).trans ?_
  refine (J.r_iload i118_15 rfl).trans ?_
  refine (J.r_aload i118_16 rfl).trans ?_
  refine (J.r_iconst i118_18).trans ?_
  refine (J.r_aload i118_19 rfl).trans ?_
  refine (J.r_alen i118_20).trans (and_congr_right fun q1 => ?_)
  refine (J.r_iload i118_21 rfl).trans ?_
  refine (J.r_isub i118_22).trans ?_
  refine (J.r_iload i118_23 rfl).trans ?_
  exact J.r_stat i118_24 (by decide) (Nat.le_of_ble_eq_true rfl) rfl rfl (Nat.le_of_ble_eq_true rfl)
theorem b118_27 (d : Nat) (h : J.H) (Q : J.O → J.H → Prop) (x0 x1 x2 x3 x4 s0 s1 s2 s3 s4 : Int) : J.WP d 118 27 [J.R x0, J.I x1, J.I x2, J.I x3, J.R x4] [J.I s4, J.I s3, J.R s2, J.I s1, J.R s0] h Q ↔ ((0 : Int) ≤ s4 ∧ (0 : Int) ≤ s1 ∧ (0 : Int) ≤ s3 ∧ s1 + s4 ≤ J.ln h s0 ∧ s3 + s4 ≤ J.ln h s2 ∧ J.cl h s2 < 300 ∧ ((J.isA (J.cl h s0) 3 = true ∧ J.cl h s2 = 204 ∧ J.cl h s0 ≠ 203) ∨ (J.isA (J.cl h s0) 2 = true ∧ J.cl h s2 = 214 ∧ J.vld h s0 s1 s4 = true))) ∧ (Q (Sum.inl (some (J.R x4))) (J.cpy h s0 s1 s2 s3 s4)) := by
  refine (J.r_acopy i118_27).trans (and_congr_right fun q0 => ?_)
  refine (J.r_aload i118_30 rfl).trans ?_
  exact J.r_aret i118_32 rfl
/-! 119 java/util/Arrays.checkLength(II)V -/
theorem i119_0 : J.cd 119 0 = some (.iload 1, 1, 0, 0, 0) := by decide +kernel
theorem i119_1 : J.cd 119 1 = some (.iload 0, 2, 0, 0, 0) := by decide +kernel
theorem i119_2 : J.cd 119 2 = some (.if_icmp .ge 35, 5, 37, 0, 0) := by decide +kernel
theorem i119_5 : J.cd 119 5 = some (.new 43, 8, 21, 13, 0) := by decide +kernel
theorem i119_8 : J.cd 119 8 = some (.dup, 9, 8, 0, 0) := by decide +kernel
theorem i119_9 : J.cd 119 9 = some (.new 45, 12, 4, 11, 0) := by decide +kernel
theorem i119_12 : J.cd 119 12 = some (.dup, 13, 12, 0, 0) := by decide +kernel
theorem i119_13 : J.cd 119 13 = some (.invokespecial 47, 16, 4, 1, 1) := by decide +kernel
theorem i119_16 : J.cd 119 16 = some (.iload 0, 17, 0, 0, 0) := by decide +kernel
theorem i119_17 : J.cd 119 17 = some (.invokevirtual 54, 20, 138, 1, 0) := by decide +kernel
theorem i119_20 : J.cd 119 20 = some (.ldc 337, 23, 1060, 1, 0) := by decide +kernel
theorem i119_23 : J.cd 119 23 = some (.invokevirtual 50, 26, 188, 1, 0) := by decide +kernel
theorem i119_26 : J.cd 119 26 = some (.iload 1, 27, 0, 0, 0) := by decide +kernel
theorem i119_27 : J.cd 119 27 = some (.invokevirtual 54, 30, 138, 1, 0) := by decide +kernel
theorem i119_30 : J.cd 119 30 = some (.invokevirtual 61, 33, 163, 0, 0) := by decide +kernel
theorem i119_33 : J.cd 119 33 = some (.invokespecial 65, 36, 120, 2, 2) := by decide +kernel
theorem i119_36 : J.cd 119 36 = some (.athrow, 37, 36, 0, 0) := by decide +kernel
theorem i119_37 : J.cd 119 37 = some (.return_, 38, 37, 0, 0) := by decide +kernel
theorem b119_0 (d : Nat) (h : J.H) (Q : J.O → J.H → Prop) (x0 x1 : Int) : J.WP d 119 0 [J.I x0, J.I x1] [] h Q ↔ if x1 < x0 then ((J.us h + (13 : Nat) ≤ J.UM) ∧ ((J.us (J.nw h 21 0 (13 : Nat)) + (11 : Nat) ≤ J.UM) ∧ (J.ik (J.cl (J.nw (J.nw h 21 0 (13 : Nat)) 4 0 (11 : Nat)) (J.nx (J.nw h 21 0 (13 : Nat)))) = true ∧ 0 < d ∧ J.WP (d - 1) 4 0 [J.R (J.nx (J.nw h 21 0 (13 : Nat)))] [] (J.nw (J.nw h 21 0 (13 : Nat)) 4 0 (11 : Nat)) (J.af J.WP d 119 13 16 [J.I x0, J.I x1] [J.R (J.nx (J.nw h 21 0 (13 : Nat))), J.R (J.nx h), J.R (J.nx h)] Q)))) else (Q (Sum.inl none) h) := by
  refine (J.r_iload i119_0 rfl).trans ?_
  refine (J.r_iload i119_1 rfl).trans ?_
  refine (J.r_icge i119_2).trans (J.ite2 ?_ ?_)
  · refine (J.r_new i119_5).trans (and_congr_right fun q0 => ?_)
    refine (J.r_dupR i119_8).trans ?_
    refine (J.r_new i119_9).trans (and_congr_right fun q1 => ?_)
    refine (J.r_dupR i119_12).trans ?_
    exact J.r_spec i119_13 (by decide) ⟨by decide, Nat.le_of_ble_eq_true rfl⟩ rfl rfl (Nat.le_of_ble_eq_true rfl)
  · exact J.r_ret i119_37 rfl
theorem b119_16 (d : Nat) (h : J.H) (Q : J.O → J.H → Prop) (x0 x1 s0 s1 s2 : Int) : J.WP d 119 16 [J.I x0, J.I x1] [J.R s2, J.R s1, J.R s0] h Q ↔ J.cl h s2 = 4 ∧ 0 < d ∧ J.WP (d - 1) 105 0 [J.R s2, J.I x0] [] h (J.af J.WP d 119 17 20 [J.I x0, J.I x1] [J.R s1, J.R s0] Q) := by
  refine (J.r_iload i119_16 rfl).trans ?_
  exact J.r_virt1 (k2 := 105) (m := 2) 4 i119_17 rfl (by decide +kernel) (by decide) rfl (Nat.le_of_ble_eq_true rfl)
theorem b119_20 (d : Nat) (h : J.H) (Q : J.O → J.H → Prop) (x0 x1 s0 s1 s2 : Int) : J.WP d 119 20 [J.I x0, J.I x1] [J.R s2, J.R s1, J.R s0] h Q ↔ J.cl h s2 = 4 ∧ 0 < d ∧ J.WP (d - 1) 85 0 [J.R s2, J.R (J.gv h (-1) 1060)] [] h (J.af J.WP d 119 23 26 [J.I x0, J.I x1] [J.R s1, J.R s0] Q) := by
  refine (J.r_ldcs i119_20).trans ?_
  exact J.r_virt1 (k2 := 85) (m := 2) 4 i119_23 rfl (by decide +kernel) (by decide) rfl (Nat.le_of_ble_eq_true rfl)
theorem b119_26 (d : Nat) (h : J.H) (Q : J.O → J.H → Prop) (x0 x1 s0 s1 s2 : Int) : J.WP d 119 26 [J.I x0, J.I x1] [J.R s2, J.R s1, J.R s0] h Q ↔ J.cl h s2 = 4 ∧ 0 < d ∧ J.WP (d - 1) 105 0 [J.R s2, J.I x1] [] h (J.af J.WP d 119 27 30 [J.I x0, J.I x1] [J.R s1, J.R s0] Q) := by
  refine (J.r_iload i119_26 rfl).trans ?_
  exact J.r_virt1 (k2 := 105) (m := 2) 4 i119_27 rfl (by decide +kernel) (by decide) rfl (Nat.le_of_ble_eq_true rfl)
theorem b119_30 (d : Nat) (h : J.H) (Q : J.O → J.H → Prop) (x0 x1 s0 s1 s2 : Int) : J.WP d 119 30 [J.I x0, J.I x1] [J.R s2, J.R s1, J.R s0] h Q ↔ J.cl h s2 = 4 ∧ 0 < d ∧ J.WP (d - 1) 111 0 [J.R s2] [] h (J.af J.WP d 119 30 33 [J.I x0, J.I x1] [J.R s1, J.R s0] Q) := by
  exact J.r_virt1 (k2 := 111) (m := 1) 4 i119_30 rfl (by decide +kernel) (by decide) rfl (Nat.le_of_ble_eq_true rfl)
theorem b119_33 (d : Nat) (h : J.H) (Q : J.O → J.H → Prop) (x0 x1 s0 s1 s2 : Int) : J.WP d 119 33 [J.I x0, J.I x1] [J.R s2, J.R s1, J.R s0] h Q ↔ J.ik (J.cl h s1) = true ∧ 0 < d ∧ J.WP (d - 1) 120 0 [J.R s1, J.R s2] [] h (J.af J.WP d 119 33 36 [J.I x0, J.I x1] [J.R s0] Q) := by
  exact J.r_spec i119_33 (by decide) ⟨by decide, Nat.le_of_ble_eq_true rfl⟩ rfl rfl (Nat.le_of_ble_eq_true rfl)
theorem b119_36 (d : Nat) (h : J.H) (Q : J.O → J.H → Prop) (x0 x1 s0 : Int) : J.WP d 119 36 [J.I x0, J.I x1] [J.R s0] h Q ↔ (J.cl h s0 = 21) ∧ Q (Sum.inr s0) h := by
  exact J.r_throw i119_36 rfl
/-! 129 java/lang/StringBuilder.append(C)Ljava/lang/StringBuilder; -/
theorem i129_0 : J.cd 129 0 = some (.aload 0, 1, 0, 0, 0) := by decide +kernel
theorem i129_1 : J.cd 129 1 = some (.iload 1, 2, 0, 0, 0) := by decide +kernel
theorem i129_2 : J.cd 129 2 = some (.invokespecial 50, 5, 130, 2, 2) := by decide +kernel
theorem i129_5 : J.cd 129 5 = some (.pop, 6, 5, 0, 0) := by decide +kernel
theorem i129_6 : J.cd 129 6 = some (.aload 0, 7, 0, 0, 0) := by decide +kernel
theorem i129_7 : J.cd 129 7 = some (.areturn, 8, 7, 0, 0) := by decide +kernel
theorem b129_0 (d : Nat) (h : J.H) (Q : J.O → J.H → Prop) (x0 x1 : Int) : J.WP d 129 0 [J.R x0, J.I x1] [] h Q ↔ J.ik (J.cl h x0) = true ∧ 0 < d ∧ J.WP (d - 1) 130 0 [J.R x0, J.I x1] [] h (J.af J.WP d 129 2 5 [J.R x0, J.I x1] [] Q) := by
  refine (J.r_aload i129_0 rfl).trans ?_
  refine (J.r_iload i129_1 rfl).trans ?_
  exact J.r_spec i129_2 (by decide) ⟨by decide, Nat.le_of_ble_eq_true rfl⟩ rfl rfl (Nat.le_of_ble_eq_true rfl)
theorem b129_5 (d : Nat) (h : J.H) (Q : J.O → J.H → Prop) (x0 x1 s0 : Int) : J.WP d 129 5 [J.R x0, J.I x1] [J.R s0] h Q ↔ Q (Sum.inl (some (J.R x0))) h := by
  refine (J.r_popR i129_5).trans ?_
  refine (J.r_aload i129_6 rfl).trans ?_
  exact J.r_aret i129_7 rfl
/-! 130 java/lang/AbstractStringBuilder.append(C)Ljava/lang/AbstractStringBuilder; -/
theorem i130_0 : J.cd 130 0 = some (.aload 0, 1, 0, 0, 0) := by decide +kernel
theorem i130_1 : J.cd 130 1 = some (.aload 0, 2, 0, 0, 0) := by decide +kernel
theorem i130_2 : J.cd 130 2 = some (.getfield 79, 5, 10, 86, 0) := by decide +kernel
theorem i130_5 : J.cd 130 5 = some (.iconst 1, 6, 5, 0, 0) := by decide +kernel
theorem i130_6 : J.cd 130 6 = some (.iadd, 7, 6, 0, 0) := by decide +kernel
theorem i130_7 : J.cd 130 7 = some (.invokevirtual 100, 10, 199, 1, 0) := by decide +kernel
theorem i130_10 : J.cd 130 10 = some (.aload 0, 11, 0, 0, 0) := by decide +kernel
theorem i130_11 : J.cd 130 11 = some (.invokevirtual 83, 14, 201, 0, 0) := by decide +kernel
theorem i130_14 : J.cd 130 14 = some (.ifCond .eq 31, 17, 45, 0, 0) := by decide +kernel
theorem i130_17 : J.cd 130 17 = some (.iload 1, 18, 0, 0, 0) := by decide +kernel
theorem i130_18 : J.cd 130 18 = some (.invokestatic 191, 21, 131, 1, 1) := by decide +kernel
theorem i130_21 : J.cd 130 21 = some (.ifCond .eq 24, 24, 45, 0, 0) := by decide +kernel
theorem i130_24 : J.cd 130 24 = some (.aload 0, 25, 0, 0, 0) := by decide +kernel
theorem i130_25 : J.cd 130 25 = some (.getfield 15, 28, 7, 86, 2) := by decide +kernel
theorem i130_28 : J.cd 130 28 = some (.aload 0, 29, 0, 0, 0) := by decide +kernel
theorem i130_29 : J.cd 130 29 = some (.dup, 30, 29, 0, 0) := by decide +kernel
theorem i130_30 : J.cd 130 30 = some (.getfield 79, 33, 10, 86, 0) := by decide +kernel
theorem i130_33 : J.cd 130 33 = some (.dup_x1, 34, 33, 0, 0) := by decide +kernel
theorem i130_34 : J.cd 130 34 = some (.iconst 1, 35, 34, 0, 0) := by decide +kernel
theorem i130_35 : J.cd 130 35 = some (.iadd, 36, 35, 0, 0) := by decide +kernel
theorem i130_36 : J.cd 130 36 = some (.putfield 79, 39, 10, 86, 0) := by decide +kernel
theorem i130_39 : J.cd 130 39 = some (.iload 1, 40, 0, 0, 0) := by decide +kernel
theorem i130_40 : J.cd 130 40 = some (.i2b, 41, 40, 0, 0) := by decide +kernel
theorem i130_41 : J.cd 130 41 = some (.bastore, 42, 41, 0, 0) := by decide +kernel
theorem i130_42 : J.cd 130 42 = some (.goto 33, 45, 75, 0, 0) := by decide +kernel
theorem i130_45 : J.cd 130 45 = some (.aload 0, 46, 0, 0, 0) := by decide +kernel
theorem i130_46 : J.cd 130 46 = some (.invokevirtual 83, 49, 201, 0, 0) := by decide +kernel
theorem i130_49 : J.cd 130 49 = some (.ifCond .eq 7, 52, 56, 0, 0) := by decide +kernel
theorem i130_52 : J.cd 130 52 = some (.aload 0, 53, 0, 0, 0) := by decide +kernel
theorem i130_53 : J.cd 130 53 = some (.invokevirtual 195, 56, 206, 0, 0) := by decide +kernel
theorem i130_56 : J.cd 130 56 = some (.aload 0, 57, 0, 0, 0) := by decide +kernel
theorem i130_57 : J.cd 130 57 = some (.getfield 15, 60, 7, 86, 2) := by decide +kernel
theorem i130_60 : J.cd 130 60 = some (.aload 0, 61, 0, 0, 0) := by decide +kernel
theorem i130_61 : J.cd 130 61 = some (.dup, 62, 61, 0, 0) := by decide +kernel
theorem i130_62 : J.cd 130 62 = some (.getfield 79, 65, 10, 86, 0) := by decide +kernel
theorem i130_65 : J.cd 130 65 = some (.dup_x1, 66, 65, 0, 0) := by decide +kernel
theorem i130_66 : J.cd 130 66 = some (.iconst 1, 67, 66, 0, 0) := by decide +kernel
theorem i130_67 : J.cd 130 67 = some (.iadd, 68, 67, 0, 0) := by decide +kernel
theorem i130_68 : J.cd 130 68 = some (.putfield 79, 71, 10, 86, 0) := by decide +kernel
theorem i130_71 : J.cd 130 71 = some (.iload 1, 72, 0, 0, 0) := by decide +kernel
theorem i130_72 : J.cd 130 72 = some (.invokestatic 197, 75, 132, 3, 3) := by decide +kernel
theorem i130_75 : J.cd 130 75 = some (.aload 0, 76, 0, 0, 0) := by decide +kernel
theorem i130_76 : J.cd 130 76 = some (.areturn, 77, 76, 0, 0) := by decide +kernel
theorem b130_0 (d : Nat) (h : J.H) (Q : J.O → J.H → Prop) (x0 x1 : Int) : J.WP d 130 0 [J.R x0, J.I x1] [] h Q ↔ (J.sb (J.cl h x0) 86 = true) ∧ (J.cl h x0 = 4 ∧ 0 < d ∧ J.WP (d - 1) 78 0 [J.R x0, J.I (J.w32 ((J.gv h x0 10) + 1)), J.U] [] h (J.af J.WP d 130 7 10 [J.R x0, J.I x1] [] Q)) := by
  refine (J.r_aload i130_0 rfl).trans ?_
  refine (J.r_aload i130_1 rfl).trans ?_
  refine (J.r_getI i130_2).trans (and_congr_right fun q0 => ?_)
  refine (J.r_iconst i130_5).trans ?_
  refine (J.r_iadd i130_6).trans ?_
  exact J.r_virt1 (k2 := 78) (m := 3) 4 i130_7 rfl (by decide +kernel) (by decide) rfl (Nat.le_of_ble_eq_true rfl)
theorem b130_10 (d : Nat) (h : J.H) (Q : J.O → J.H → Prop) (x0 x1 : Int) : J.WP d 130 10 [J.R x0, J.I x1] [] h Q ↔ J.cl h x0 = 4 ∧ 0 < d ∧ J.WP (d - 1) 81 0 [J.R x0] [] h (J.af J.WP d 130 11 14 [J.R x0, J.I x1] [] Q) := by
  refine (J.r_aload i130_10 rfl).trans ?_
  exact J.r_virt1 (k2 := 81) (m := 1) 4 i130_11 rfl (by decide +kernel) (by decide) rfl (Nat.le_of_ble_eq_true rfl)
theorem b130_14 (d : Nat) (h : J.H) (Q : J.O → J.H → Prop) (x0 x1 s0 : Int) : J.WP d 130 14 [J.R x0, J.I x1] [J.I s0] h Q ↔ if s0 = 0 then (J.WP d 130 45 [J.R x0, J.I x1] [] h Q) else (0 < d ∧ J.WP (d - 1) 131 0 [J.I x1] [] h (J.af J.WP d 130 18 21 [J.R x0, J.I x1] [] Q)) := by
  refine (J.r_ifeq i130_14).trans (J.ite2 ?_ ?_)
  · exact Iff.rfl
  · refine (J.r_iload i130_17 rfl).trans ?_
    exact J.r_stat i130_18 (by decide) (Nat.le_of_ble_eq_true rfl) rfl rfl (Nat.le_of_ble_eq_true rfl)
theorem b130_21 (d : Nat) (h : J.H) (Q : J.O → J.H → Prop) (x0 x1 s0 : Int) : J.WP d 130 21 [J.R x0, J.I x1] [J.I s0] h Q ↔ if s0 = 0 then (J.WP d 130 45 [J.R x0, J.I x1] [] h Q) else ((J.sb (J.cl h x0) 86 = true) ∧ ((J.sb (J.cl h x0) 86 = true ∧ J.cl h x0 < 300) ∧ ((((J.cl h (J.gv h x0 7) = 203 ∧ J.zo (J.i8 x1)) ∨ (J.cl h (J.gv h x0 7) = 204 ∧ J.br (J.i8 x1))) ∧ J.rg (J.gv h x0 10) (J.ln h (J.gv h x0 7))) ∧ (J.WP d 130 75 [J.R x0, J.I x1] [] (J.sv (J.sv h x0 10 (J.w32 ((J.gv h x0 10) + 1))) (J.gv h x0 7) (J.gv h x0 10) (J.i8 x1)) Q)))) := by
  refine (J.r_ifeq i130_21).trans (J.ite2 ?_ ?_)
  · exact Iff.rfl
  · refine (J.r_aload i130_24 rfl).trans ?_
    refine (J.r_getR i130_25).trans (and_congr_right fun q0 => ?_)
    refine (J.r_aload i130_28 rfl).trans ?_
    refine (J.r_dupR i130_29).trans ?_
    refine (J.r_getI i130_30).trans ((J.tru q0).trans ?_)
    refine (J.r_dupx1IR i130_33).trans ?_
    refine (J.r_iconst i130_34).trans ?_
    refine (J.r_iadd i130_35).trans ?_
    refine (J.r_putI i130_36).trans (and_congr_right fun q1 => ?_)
    refine (J.r_iload i130_39 rfl).trans ?_
    refine (J.r_i2b i130_40).trans ?_
    refine (J.r_bastore i130_41).trans (and_congr_right fun q2 => ?_)
    refine (J.r_goto i130_42).trans ?_
    exact Iff.rfl
theorem b130_45 (d : Nat) (h : J.H) (Q : J.O → J.H → Prop) (x0 x1 : Int) : J.WP d 130 45 [J.R x0, J.I x1] [] h Q ↔ J.cl h x0 = 4 ∧ 0 < d ∧ J.WP (d - 1) 81 0 [J.R x0] [] h (J.af J.WP d 130 46 49 [J.R x0, J.I x1] [] Q) := by
  refine (J.r_aload i130_45 rfl).trans ?_
  exact J.r_virt1 (k2 := 81) (m := 1) 4 i130_46 rfl (by decide +kernel) (by decide) rfl (Nat.le_of_ble_eq_true rfl)
theorem b130_49 (d : Nat) (h : J.H) (Q : J.O → J.H → Prop) (x0 x1 s0 : Int) : J.WP d 130 49 [J.R x0, J.I x1] [J.I s0] h Q ↔ if s0 = 0 then (J.WP d 130 56 [J.R x0, J.I x1] [] h Q) else (J.cl h x0 = 4 ∧ 0 < d ∧ J.WP (d - 1) 98 0 [J.R x0, J.U] [] h (J.af J.WP d 130 53 56 [J.R x0, J.I x1] [] Q)) := by
  refine (J.r_ifeq i130_49).trans (J.ite2 ?_ ?_)
  · exact Iff.rfl
  · refine (J.r_aload i130_52 rfl).trans ?_
    exact J.r_virt1 (k2 := 98) (m := 2) 4 i130_53 rfl (by decide +kernel) (by decide) rfl (Nat.le_of_ble_eq_true rfl)
theorem b130_56 (d : Nat) (h : J.H) (Q : J.O → J.H → Prop) (x0 x1 : Int) : J.WP d 130 56 [J.R x0, J.I x1] [] h Q ↔ (J.sb (J.cl h x0) 86 = true) ∧ ((J.sb (J.cl h x0) 86 = true ∧ J.cl h x0 < 300) ∧ (0 < d ∧ J.WP (d - 1) 132 0 [J.R (J.gv h x0 7), J.I (J.gv h x0 10), J.I x1] [] (J.sv h x0 10 (J.w32 ((J.gv h x0 10) + 1))) (J.af J.WP d 130 72 75 [J.R x0, J.I x1] [] Q))) := by
  refine (J.r_aload i130_56 rfl).trans ?_
  refine (J.r_getR i130_57).trans (and_congr_right fun q0 => ?_)
  refine (J.r_aload i130_60 rfl).trans ?_
  refine (J.r_dupR i130_61).trans ?_
  refine (J.r_getI i130_62).trans ((J.tru q0).trans ?_)
  refine (J.r_dupx1IR i130_65).trans ?_
  refine (J.r_iconst i130_66).trans ?_
  refine (J.r_iadd i130_67).trans ?_
  refine (J.r_putI i130_68).trans (and_congr_right fun q1 => ?_)
  refine (J.r_iload i130_71 rfl).trans ?_
  exact J.r_stat i130_72 (by decide) (Nat.le_of_ble_eq_true rfl) rfl rfl (Nat.le_of_ble_eq_true rfl)
theorem b130_75 (d : Nat) (h : J.H) (Q : J.O → J.H → Prop) (x0 x1 : Int) : J.WP d 130 75 [J.R x0, J.I x1] [] h Q ↔ Q (Sum.inl (some (J.R x0))) h := by
  refine (J.r_aload i130_75 rfl).trans ?_
  exact J.r_aret i130_76 rfl
/-! 131 java/lang/StringLatin1.canEncode(C)Z -/
theorem i131_0 : J.cd 131 0 = some (.iload 0, 1, 0, 0, 0) := by decide +kernel
theorem i131_1 : J.cd 131 1 = some (.iconst 255, 4, 0, 0, 0) := by decide +kernel
theorem i131_4 : J.cd 131 4 = some (.if_icmp .gt 7, 7, 11, 0, 0) := by decide +kernel
theorem i131_7 : J.cd 131 7 = some (.iconst 1, 8, 7, 0, 0) := by decide +kernel
theorem i131_8 : J.cd 131 8 = some (.goto 4, 11, 12, 0, 0) := by decide +kernel
theorem i131_11 : J.cd 131 11 = some (.iconst 0, 12, 11, 0, 0) := by decide +kernel
theorem i131_12 : J.cd 131 12 = some (.ireturn, 13, 0, 0, 3) := by decide +kernel
theorem b131_0 (d : Nat) (h : J.H) (Q : J.O → J.H → Prop) (x0 : Int) : J.WP d 131 0 [J.I x0] [] h Q ↔ if x0 ≤ 255 then (J.WP d 131 12 [J.I x0] [J.I 1] h Q) else (J.WP d 131 12 [J.I x0] [J.I 0] h Q) := by
  refine (J.r_iload i131_0 rfl).trans ?_
  refine (J.r_iconst i131_1).trans ?_
  refine (J.r_icgt i131_4).trans (J.ite2 ?_ ?_)
  · refine (J.r_iconst i131_7).trans ?_
    refine (J.r_goto i131_8).trans ?_
    exact Iff.rfl
  · refine (J.r_iconst i131_11).trans ?_
    exact Iff.rfl
theorem b131_12 (d : Nat) (h : J.H) (Q : J.O → J.H → Prop) (x0 s0 : Int) : J.WP d 131 12 [J.I x0] [J.I s0] h Q ↔ (J.zo s0) ∧ Q (Sum.inl (some (J.I s0))) h := by
  exact J.r_iretZ i131_12 rfl
/-! 134 java/lang/String.checkIndex(II)V -/
theorem i134_0 : J.cd 134 0 = some (.iload 0, 1, 0, 0, 0) := by decide +kernel
theorem i134_1 : J.cd 134 1 = some (.iload 1, 2, 0, 0, 0) := by decide +kernel
theorem i134_2 : J.cd 134 2 = some (.getstatic 1053, 5, 5, 0, 2) := by decide +kernel
theorem i134_5 : J.cd 134 5 = some (.invokestatic 1059, 8, 32, 3, 3) := by decide +kernel
theorem i134_8 : J.cd 134 8 = some (.pop, 9, 8, 0, 0) := by decide +kernel
theorem i134_9 : J.cd 134 9 = some (.return_, 10, 9, 0, 0) := by decide +kernel
theorem b134_0 (d : Nat) (h : J.H) (Q : J.O → J.H → Prop) (x0 x1 : Int) : J.WP d 134 0 [J.I x0, J.I x1] [] h Q ↔ 0 < d ∧ J.WP (d - 1) 32 0 [J.I x0, J.I x1, J.R (J.gv h (-1) 5)] [] h (J.af J.WP d 134 5 8 [J.I x0, J.I x1] [] Q) := by
  refine (J.r_iload i134_0 rfl).trans ?_
  refine (J.r_iload i134_1 rfl).trans ?_
  refine (J.r_getsR i134_2).trans ?_
  exact J.r_stat i134_5 (by decide) (Nat.le_of_ble_eq_true rfl) rfl rfl (Nat.le_of_ble_eq_true rfl)
theorem b134_8 (d : Nat) (h : J.H) (Q : J.O → J.H → Prop) (x0 x1 s0 : Int) : J.WP d 134 8 [J.I x0, J.I x1] [J.I s0] h Q ↔ Q (Sum.inl none) h := by
  refine (J.r_popI i134_8).trans ?_
  exact J.r_ret i134_9 rfl
/-! 550 java/lang/StringBuilder.charAt(I)C -/
theorem i550_0 : J.cd 550 0 = some (.aload 0, 1, 0, 0, 0) := by decide +kernel
theorem i550_1 : J.cd 550 1 = some (.iload 1, 2, 0, 0, 0) := by decide +kernel
theorem i550_2 : J.cd 550 2 = some (.invokespecial 329, 5, 551, 2, 5) := by decide +kernel
theorem i550_5 : J.cd 550 5 = some (.ireturn, 6, 0, 0, 5) := by decide +kernel
theorem b550_0 (d : Nat) (h : J.H) (Q : J.O → J.H → Prop) (x0 x1 : Int) : J.WP d 550 0 [J.R x0, J.I x1] [] h Q ↔ J.ik (J.cl h x0) = true ∧ 0 < d ∧ J.WP (d - 1) 551 0 [J.R x0, J.I x1, J.U, J.U, J.U] [] h (J.af J.WP d 550 2 5 [J.R x0, J.I x1] [] Q) := by
  refine (J.r_aload i550_0 rfl).trans ?_
  refine (J.r_iload i550_1 rfl).trans ?_
  exact J.r_spec i550_2 (by decide) ⟨by decide, Nat.le_of_ble_eq_true rfl⟩ rfl rfl (Nat.le_of_ble_eq_true rfl)
theorem b550_5 (d : Nat) (h : J.H) (Q : J.O → J.H → Prop) (x0 x1 s0 : Int) : J.WP d 550 5 [J.R x0, J.I x1] [J.I s0] h Q ↔ (J.cr s0) ∧ Q (Sum.inl (some (J.I s0))) h := by
  exact J.r_iretC i550_5 rfl
/-! 551 java/lang/AbstractStringBuilder.charAt(I)C -/
theorem i551_0 : J.cd 551 0 = some (.aload 0, 1, 0, 0, 0) := by decide +kernel
theorem i551_1 : J.cd 551 1 = some (.getfield 22, 4, 8, 86, 4) := by decide +kernel
theorem i551_4 : J.cd 551 4 = some (.istore 2, 5, 0, 0, 0) := by decide +kernel
theorem i551_5 : J.cd 551 5 = some (.aload 0, 6, 0, 0, 0) := by decide +kernel
theorem i551_6 : J.cd 551 6 = some (.getfield 15, 9, 7, 86, 2) := by decide +kernel
theorem i551_9 : J.cd 551 9 = some (.astore 3, 10, 0, 0, 0) := by decide +kernel
theorem i551_10 : J.cd 551 10 = some (.aload 0, 11, 0, 0, 0) := by decide +kernel
theorem i551_11 : J.cd 551 11 = some (.getfield 79, 14, 10, 86, 0) := by decide +kernel
theorem i551_14 : J.cd 551 14 = some (.aload 3, 15, 0, 0, 0) := by decide +kernel
theorem i551_15 : J.cd 551 15 = some (.arraylength, 16, 15, 0, 0) := by decide +kernel
theorem i551_16 : J.cd 551 16 = some (.iload 2, 17, 0, 0, 0) := by decide +kernel
theorem i551_17 : J.cd 551 17 = some (.ishr, 18, 17, 0, 0) := by decide +kernel
theorem i551_18 : J.cd 551 18 = some (.invokestatic 138, 21, 26, 2, 2) := by decide +kernel
theorem i551_21 : J.cd 551 21 = some (.istore 4, 23, 21, 0, 0) := by decide +kernel
theorem i551_23 : J.cd 551 23 = some (.iload 1, 24, 0, 0, 0) := by decide +kernel
theorem i551_24 : J.cd 551 24 = some (.iload 4, 26, 24, 0, 0) := by decide +kernel
theorem i551_26 : J.cd 551 26 = some (.invokestatic 144, 29, 134, 2, 2) := by decide +kernel
theorem i551_29 : J.cd 551 29 = some (.iload 2, 30, 0, 0, 0) := by decide +kernel
theorem i551_30 : J.cd 551 30 = some (.ifCond .ne 12, 33, 42, 0, 0) := by decide +kernel
theorem i551_33 : J.cd 551 33 = some (.aload 3, 34, 0, 0, 0) := by decide +kernel
theorem i551_34 : J.cd 551 34 = some (.iload 1, 35, 0, 0, 0) := by decide +kernel
theorem i551_35 : J.cd 551 35 = some (.baload, 36, 35, 0, 0) := by decide +kernel
theorem i551_36 : J.cd 551 36 = some (.iconst 255, 39, 0, 0, 0) := by decide +kernel
theorem i551_39 : J.cd 551 39 = some (.iand, 40, 39, 0, 0) := by decide +kernel
theorem i551_40 : J.cd 551 40 = some (.i2c, 41, 40, 0, 0) := by decide +kernel
theorem i551_41 : J.cd 551 41 = some (.ireturn, 42, 0, 0, 5) := by decide +kernel
theorem i551_42 : J.cd 551 42 = some (.aload 3, 43, 0, 0, 0) := by decide +kernel
theorem i551_43 : J.cd 551 43 = some (.iload 1, 44, 0, 0, 0) := by decide +kernel
theorem i551_44 : J.cd 551 44 = some (.invokestatic 148, 47, 126, 2, 2) := by decide +kernel
theorem i551_47 : J.cd 551 47 = some (.ireturn, 48, 0, 0, 5) := by decide +kernel
theorem b551_0 (d : Nat) (h : J.H) (Q : J.O → J.H → Prop) (x0 x1 : Int) : J.WP d 551 0 [J.R x0, J.I x1, J.U, J.U, J.U] [] h Q ↔ (J.sb (J.cl h x0) 86 = true) ∧ ((J.ia (J.cl h (J.gv h x0 7)) = true) ∧ (0 < d ∧ J.WP (d - 1) 26 0 [J.I (J.gv h x0 10), J.I (J.shr32 (J.ln h (J.gv h x0 7)) (J.gv h x0 8))] [] h (J.af J.WP d 551 18 21 [J.R x0, J.I x1, J.I (J.gv h x0 8), J.R (J.gv h x0 7), J.U] [] Q))) := by
  refine (J.r_aload i551_0 rfl).trans ?_
  refine (J.r_getB i551_1).trans (and_congr_right fun q0 => ?_)
  refine (J.r_istore i551_4 (Nat.le_of_ble_eq_true rfl) rfl).trans ?_
  refine (J.r_aload i551_5 rfl).trans ?_
  refine (J.r_getR i551_6).trans ((J.tru q0).trans ?_)
  refine (J.r_astore i551_9 (Nat.le_of_ble_eq_true rfl) rfl).trans ?_
  refine (J.r_aload i551_10 rfl).trans ?_
  refine (J.r_getI i551_11).trans ((J.tru q0).trans ?_)
  refine (J.r_aload i551_14 rfl).trans ?_
  refine (J.r_alen i551_15).trans (and_congr_right fun q1 => ?_)
  refine (J.r_iload i551_16 rfl).trans ?_
  refine (J.r_ishr i551_17).trans ?_
  exact J.r_stat i551_18 (by decide) (Nat.le_of_ble_eq_true rfl) rfl rfl (Nat.le_of_ble_eq_true rfl)
theorem b551_21 (d : Nat) (h : J.H) (Q : J.O → J.H → Prop) (x0 x1 x2 x3 s0 : Int) : J.WP d 551 21 [J.R x0, J.I x1, J.I x2, J.R x3, J.U] [J.I s0] h Q ↔ 0 < d ∧ J.WP (d - 1) 134 0 [J.I x1, J.I s0] [] h (J.af J.WP d 551 26 29 [J.R x0, J.I x1, J.I x2, J.R x3, J.I s0] [] Q) := by
  refine (J.r_istore i551_21 (Nat.le_of_ble_eq_true rfl) rfl).trans ?_
  refine (J.r_iload i551_23 rfl).trans ?_
  refine (J.r_iload i551_24 rfl).trans ?_
  exact J.r_stat i551_26 (by decide) (Nat.le_of_ble_eq_true rfl) rfl rfl (Nat.le_of_ble_eq_true rfl)
theorem b551_29 (d : Nat) (h : J.H) (Q : J.O → J.H → Prop) (x0 x1 x2 x3 x4 : Int) : J.WP d 551 29 [J.R x0, J.I x1, J.I x2, J.R x3, J.I x4] [] h Q ↔ if x2 = 0 then ((J.isA (J.cl h x3) 3 = true ∧ J.rg x1 (J.ln h x3)) ∧ ((J.cr ((J.and32 (J.gv h x3 x1) 255) % 65536)) ∧ Q (Sum.inl (some (J.I ((J.and32 (J.gv h x3 x1) 255) % 65536)))) h)) else (0 < d ∧ J.WP (d - 1) 126 0 [J.R x3, J.I x1] [] h (J.af J.WP d 551 44 47 [J.R x0, J.I x1, J.I x2, J.R x3, J.I x4] [] Q)) := by
  refine (J.r_iload i551_29 rfl).trans ?_
  refine (J.r_ifne i551_30).trans (J.ite2 ?_ ?_)
  · refine (J.r_aload i551_33 rfl).trans ?_
    refine (J.r_iload i551_34 rfl).trans ?_
    refine (J.r_baload i551_35).trans (and_congr_right fun q0 => ?_)
    refine (J.r_iconst i551_36).trans ?_
    refine (J.r_iand i551_39).trans ?_
    refine (J.r_i2c i551_40).trans ?_
    exact J.r_iretC i551_41 rfl
  · refine (J.r_aload i551_42 rfl).trans ?_
    refine (J.r_iload i551_43 rfl).trans ?_
    exact J.r_stat i551_44 (by decide) (Nat.le_of_ble_eq_true rfl) rfl rfl (Nat.le_of_ble_eq_true rfl)
theorem b551_47 (d : Nat) (h : J.H) (Q : J.O → J.H → Prop) (x0 x1 x2 x3 x4 s0 : Int) : J.WP d 551 47 [J.R x0, J.I x1, J.I x2, J.R x3, J.I x4] [J.I s0] h Q ↔ (J.cr s0) ∧ Q (Sum.inl (some (J.I s0))) h := by
  exact J.r_iretC i551_47 rfl
end
section
/-! contracts: java.lang.StringBuilder (all of one byte a sign) -/
set_option maxRecDepth 100000
theorem J.sb4 : J.sb 4 86 = true := by decide
theorem J.ik4 : J.ik 4 = true := by decide
/-- a builder and its bytes -/
def J.SB (h : J.H) (a : Int) (bs : List Int) : Prop := J.cl h a = 4 ∧ J.gv h a 8 = 0 ∧ J.gv h a 10 = bs.length ∧ J.cl h (J.gv h a 7) = 204 ∧ (bs.length : Int) ≤ J.ln h (J.gv h a 7) ∧ J.ln h (J.gv h a 7) < 40000 ∧ ∀ j : Nat, j < bs.length → J.gv h (J.gv h a 7) j = bs.getD j 0
section
variable {d : Nat} {h : J.H} {Q : J.O → J.H → Prop} {a : Int} {bs : List Int}
theorem J.sb_latin (hb : J.SB h a bs) (hc : J.gv h (-1) 0 = 1) (hQ : Q (Sum.inl (some (J.I 1))) h) : J.WP d 81 0 [J.R a] [] h Q := by
  rw [b81_0, hc, if_neg (by decide), hb.1, hb.2.1, if_pos rfl, b81_18]
  exact ⟨J.sb4, Or.inr rfl, hQ⟩
theorem J.copyOfB {v n : Int} (hc : J.cl h v = 204) (h0 : 0 ≤ J.ln h v) (h1 : J.ln h v < n) (he : v ≠ J.nx h) (hus : J.us h + 7 + n ≤ J.UM) (hd : 1 ≤ d) (hQ : Q (Sum.inl (some (J.R (J.nx h)))) (J.cpy (J.nw h 204 n (7 + n)) v 0 (J.nx h) 0 (J.ln h v))) : J.WP d 80 0 [J.R v, J.I n, J.U] [] h Q := by
  rw [b80_0, hc, if_neg (by omega)]
  refine ⟨by decide, ⟨by omega, hus⟩, by rw [J.cl_nw, if_neg he, hc]; decide, by omega, J.math_min ?_⟩
  rw [J.ln_nw, if_neg he, if_pos (by omega), J.af_s, b80_28]
  refine ⟨⟨h0, Int.le_refl _, Int.le_refl _, ?_, ?_, ?_, Or.inl ⟨?_, ?_, ?_⟩⟩, hQ⟩
  · rw [J.ln_nw, if_neg he]; omega
  · rw [J.ln_nw, if_pos rfl]; omega
  · rw [J.cl_nw, if_pos rfl]; decide
  · rw [J.cl_nw, if_neg he, hc]; decide
  · rw [J.cl_nw, if_pos rfl]
  · rw [J.cl_nw, if_neg he, hc]; decide
theorem J.shl0 {x : Int} (h1 : -2147483648 ≤ x) (h2 : x < 2147483648) : J.shl32 x 0 = x := by
  unfold J.shl32
  show J.w32 (x * 1) = x
  rw [Int.mul_one, J.w32_id h1 h2]
theorem J.sb_ensure {m : Int} (hok : J.Ok h) (hb : J.SB h a bs) (h0 : 0 ≤ m) (h1 : m < 40000) (hus : J.us h + 100 + 2 * J.ln h (J.gv h a 7) + m ≤ J.UM) (hd : 3 ≤ d) (hQ1 : m ≤ J.ln h (J.gv h a 7) → Q (Sum.inl none) h)
    (hQ2 : ∀ N : Int, J.ln h (J.gv h a 7) < m → m ≤ N → J.ln h (J.gv h a 7) < N → N ≤ 2 * J.ln h (J.gv h a 7) + m + 2 → Q (Sum.inl none) (J.sv (J.cpy (J.nw h 204 N (7 + N)) (J.gv h a 7) 0 (J.nx h) 0 (J.ln h (J.gv h a 7))) a 7 (J.nx h))) : J.WP d 78 0 [J.R a, J.I m, J.U] [] h Q := by
  obtain ⟨c1, c2, c3, c4, c5, c6, c7⟩ := hb
  have hne : J.gv h a 7 ≠ J.nx h := by
    intro z
    have := hok.2.1 (J.gv h a 7) (by omega)
    rw [this] at c4; cases c4
  have hna : a ≠ J.nx h := by
    intro z
    have := hok.2.1 a (by omega)
    rw [this] at c1; cases c1
  rw [b78_0, c1, c2, c4, J.shr0]
  refine ⟨J.sb4, by decide, ?_⟩
  rw [J.w32_id (by omega) (by omega)]
  by_cases e : m - J.ln h (J.gv h a 7) ≤ 0
  · rw [if_pos e, b78_38]; exact hQ1 (by omega)
  · rw [if_neg e]
    refine ⟨rfl, by omega, ?_⟩
    rw [b79_0, c1, c2, c4, J.shl0 (by omega) (by omega), J.shl0 (by omega) (by omega), J.w32_id (by omega) (by omega), J.w32_id (by omega) (by omega)]
    refine ⟨J.sb4, by decide, by omega, J.newLength (by omega) (by omega) (by omega) (by omega) (by omega) (by omega) (by omega) ?_⟩
    generalize hz : J.ln h (J.gv h a 7) + (if m - J.ln h (J.gv h a 7) < J.ln h (J.gv h a 7) + 2 then J.ln h (J.gv h a 7) + 2 else m - J.ln h (J.gv h a 7)) = N
    have hN : m ≤ N ∧ J.ln h (J.gv h a 7) < N ∧ N ≤ 2 * J.ln h (J.gv h a 7) + m + 2 := by
      by_cases e2 : m - J.ln h (J.gv h a 7) < J.ln h (J.gv h a 7) + 2
      · rw [if_pos e2] at hz; omega
      · rw [if_neg e2] at hz; omega
    rw [J.af_s, b79_32, if_neg (by omega), c1, c2, J.shr0]
    refine ⟨J.sb4, ?_⟩
    rw [J.af_s, b78_27, c1, c2, J.shl0 (by omega) (by omega)]
    refine ⟨J.sb4, by omega, J.copyOfB c4 (by omega) hN.2.1 hne (by omega) (by omega) ?_⟩
    rw [J.af_s, b78_35, J.cl_cpy, J.cl_nw, if_neg hna, c1, b78_38]
    exact ⟨⟨J.sb4, by decide⟩, hQ2 N (by omega) hN.1 hN.2.1 hN.2.2⟩
/-- the builder after its array has been made longer -/
theorem J.SB_grown {N : Int} (hok : J.Ok h) (hb : J.SB h a bs) (h1 : J.ln h (J.gv h a 7) < N) (h2 : N < 40000) : J.SB (J.sv (J.cpy (J.nw h 204 N (7 + N)) (J.gv h a 7) 0 (J.nx h) 0 (J.ln h (J.gv h a 7))) a 7 (J.nx h)) a bs := by
  obtain ⟨c1, c2, c3, c4, c5, c6, c7⟩ := hb
  have hne : J.gv h a 7 ≠ J.nx h := by
    intro z
    have := hok.2.1 (J.gv h a 7) (by omega)
    rw [this] at c4; cases c4
  have hna : a ≠ J.nx h := by
    intro z
    have := hok.2.1 a (by omega)
    rw [this] at c1; cases c1
  have e7 : J.gv (J.sv (J.cpy (J.nw h 204 N (7 + N)) (J.gv h a 7) 0 (J.nx h) 0 (J.ln h (J.gv h a 7))) a 7 (J.nx h)) a 7 = J.nx h := by rw [J.gv_sv, if_pos ⟨rfl, rfl⟩]
  have eo : ∀ i : Int, i ≠ 7 → J.gv (J.sv (J.cpy (J.nw h 204 N (7 + N)) (J.gv h a 7) 0 (J.nx h) 0 (J.ln h (J.gv h a 7))) a 7 (J.nx h)) a i = J.gv h a i := by
    intro i hi
    rw [J.gv_sv, if_neg (fun z => hi z.2), J.gv_cpy, if_neg (fun z => hna z.1), J.gv_nw, if_neg hna]
  refine ⟨?_, by rw [eo 8 (by decide)]; exact c2, by rw [eo 10 (by decide)]; exact c3, ?_, ?_, ?_, fun j hj => ?_⟩
  · rw [J.cl_sv, J.cl_cpy, J.cl_nw, if_neg hna]; exact c1
  · rw [e7, J.cl_sv, J.cl_cpy, J.cl_nw, if_pos rfl]
  · rw [e7, J.ln_sv, J.ln_cpy, J.ln_nw, if_pos rfl]; omega
  · rw [e7, J.ln_sv, J.ln_cpy, J.ln_nw, if_pos rfl]; exact h2
  · rw [e7, J.gv_sv, if_neg (fun z => hna z.1.symm), J.gv_cpy, if_pos ⟨rfl, by omega, by omega⟩, J.gv_nw, if_neg hne, show (0 : Int) + ((j : Int) - 0) = j by omega]
    exact c7 j hj
theorem J.i8_r (c : Int) : -128 ≤ J.i8 c ∧ J.i8 c < 128 := by unfold J.i8; omega
theorem J.sb_push {c : Int} (hb : J.SB h a bs) (hc : J.gv h (-1) 0 = 1) (h1 : c ≤ 255) (hr : (bs.length : Int) < J.ln h (J.gv h a 7)) (hd : 1 ≤ d) (hQ : Q (Sum.inl (some (J.R a))) (J.sv (J.sv h a 10 ((bs.length : Int) + 1)) (J.gv h a 7) bs.length (J.i8 c))) : J.WP d 130 10 [J.R a, J.I c] [] h Q := by
  have hb0 := hb
  obtain ⟨c1, c2, c3, c4, c5, c6, c7⟩ := hb
  rw [b130_10]
  refine ⟨c1, by omega, J.sb_latin hb0 hc ?_⟩
  rw [J.af_s, b130_14, if_neg (by decide)]
  refine ⟨by omega, ?_⟩
  rw [b131_0, if_pos h1, b131_12]
  refine ⟨Or.inr rfl, ?_⟩
  rw [J.af_s, b130_21, if_neg (by decide), c1, c3, c4, J.w32_id (by omega) (by omega), b130_75]
  exact ⟨J.sb4, ⟨J.sb4, by decide⟩, ⟨Or.inr ⟨rfl, J.i8_r c⟩, ⟨by omega, hr⟩⟩, hQ⟩
theorem J.SB_pushed {x : Int} (hb : J.SB h a bs) (hr : (bs.length : Int) < J.ln h (J.gv h a 7)) : J.SB (J.sv (J.sv h a 10 ((bs.length : Int) + 1)) (J.gv h a 7) bs.length x) a (bs ++ [x]) := by
  obtain ⟨c1, c2, c3, c4, c5, c6, c7⟩ := hb
  have hva : J.gv h a 7 ≠ a := by
    intro z
    rw [z, c1] at c4; cases c4
  have eo : ∀ i : Int, i ≠ 10 → J.gv (J.sv (J.sv h a 10 ((bs.length : Int) + 1)) (J.gv h a 7) bs.length x) a i = J.gv h a i := by
    intro i hi
    rw [J.gv_sv, if_neg (fun z => hva z.1.symm), J.gv_sv, if_neg (fun z => hi z.2)]
  have e7 := eo 7 (by decide)
  refine ⟨c1, by rw [eo 8 (by decide)]; exact c2, ?_, ?_, ?_, ?_, fun j hj => ?_⟩
  · rw [J.gv_sv, if_neg (fun z => hva z.1.symm), J.gv_sv, if_pos ⟨rfl, rfl⟩]; simp
  · rw [e7]; exact c4
  · rw [e7]; show _ ≤ J.ln h (J.gv h a 7); simp; omega
  · rw [e7]; exact c6
  · rw [e7, J.gv_sv]
    have hj' : j < bs.length + 1 := by simpa using hj
    by_cases ej : (j : Int) = bs.length
    · rw [if_pos ⟨rfl, ej⟩]
      have : j = bs.length := by omega
      rw [this]; simp
    · rw [if_neg (fun z => ej z.2), J.gv_sv, if_neg (fun z => hva z.1), c7 j (by omega)]
      simp [List.getElem?_append_left (show j < bs.length by omega)]
/-- append of a sign -/
theorem J.sb_char {c : Int} (hok : J.Ok h) (hb : J.SB h a bs) (hc : J.gv h (-1) 0 = 1) (h1 : c ≤ 255) (hl : bs.length < 10000) (hn : J.ln h (J.gv h a 7) < 15000) (hus : J.us h + 200 + 2 * J.ln h (J.gv h a 7) + bs.length ≤ J.UM) (hd : 5 ≤ d)
    (hQ : ∀ h', J.SB h' a (bs ++ [J.i8 c]) → J.Ok h' → J.Le h h' → (∀ y i, y < J.nx h → y ≠ a → y ≠ J.gv h a 7 → J.gv h' y i = J.gv h y i) → (J.gv h' a 7 = J.gv h a 7 ∨ J.nx h ≤ J.gv h' a 7) → J.us h' ≤ J.us h + 100 + 2 * J.ln h (J.gv h a 7) + bs.length → Q (Sum.inl (some (J.R a))) h') : J.WP d 129 0 [J.R a, J.I c] [] h Q := by
  have hk : J.WP d 129 0 [J.R a, J.I c] [] h (fun o h' => o = Sum.inl (some (J.R a)) ∧ J.SB h' a (bs ++ [J.i8 c]) ∧ (∀ y i, y < J.nx h → y ≠ a → y ≠ J.gv h a 7 → J.gv h' y i = J.gv h y i) ∧ (J.gv h' a 7 = J.gv h a 7 ∨ J.nx h ≤ J.gv h' a 7) ∧ J.us h' ≤ J.us h + 100 + 2 * J.ln h (J.gv h a 7) + bs.length) := by
    have hb0 := hb
    obtain ⟨c1, c2, c3, c4, c5, c6, c7⟩ := hb
    have hva : J.gv h a 7 ≠ a := by
      intro z
      rw [z, c1] at c4; cases c4
    have hna : a ≠ J.nx h := by
      intro z
      have := hok.2.1 a (by omega)
      rw [this] at c1; cases c1
    have hm1 : (-1 : Int) ≠ a := by
      intro z
      have := hok.1 a (by omega)
      rw [this] at c1; cases c1
    have hnx := hok.2.2
    rw [b129_0, c1]
    refine ⟨J.ik4, by omega, ?_⟩
    rw [b130_0, c1, c3, J.w32_id (by omega) (by omega)]
    refine ⟨J.sb4, rfl, by omega, J.sb_ensure hok hb0 (by omega) (by omega) (by omega) (by omega) (fun e => ?_) (fun N n1 n2 n3 n4 => ?_)⟩
    · rw [J.af_v]
      refine J.sb_push hb0 hc h1 (by omega) (by omega) ?_
      rw [J.af_s, b129_5]
      refine ⟨rfl, J.SB_pushed hb0 (by omega), fun y i y1 y2 y3 => ?_, Or.inl ?_, ?_⟩
      · rw [J.gv_sv, if_neg (fun z => y3 z.1), J.gv_sv, if_neg (fun z => y2 z.1)]
      · rw [J.gv_sv, if_neg (fun z => hva z.1.symm), J.gv_sv, if_neg (by omega)]
      · show J.us h ≤ _; omega
    · rw [J.af_v]
      have hg := J.SB_grown (N := N) hok hb0 n3 (by omega)
      have e7 : J.gv (J.sv (J.cpy (J.nw h 204 N (7 + N)) (J.gv h a 7) 0 (J.nx h) 0 (J.ln h (J.gv h a 7))) a 7 (J.nx h)) a 7 = J.nx h := by rw [J.gv_sv, if_pos ⟨rfl, rfl⟩]
      have eln : J.ln (J.sv (J.cpy (J.nw h 204 N (7 + N)) (J.gv h a 7) 0 (J.nx h) 0 (J.ln h (J.gv h a 7))) a 7 (J.nx h)) (J.nx h) = N := by rw [J.ln_sv, J.ln_cpy, J.ln_nw, if_pos rfl]
      refine J.sb_push hg ?_ h1 (by rw [e7, eln]; omega) (by omega) ?_
      · rw [J.gv_sv, if_neg (fun z => hm1 z.1), J.gv_cpy, if_neg (fun z => by omega), J.gv_nw, if_neg (by omega)]; exact hc
      · rw [J.af_s, b129_5]
        refine ⟨rfl, J.SB_pushed hg (by rw [e7, eln]; omega), fun y i y1 y2 y3 => ?_, Or.inr ?_, ?_⟩
        · rw [e7, J.gv_sv, if_neg (fun z => by omega), J.gv_sv, if_neg (fun z => y2 z.1), J.gv_sv, if_neg (fun z => y2 z.1), J.gv_cpy, if_neg (fun z => by omega), J.gv_nw, if_neg (by omega)]
        · rw [e7, J.gv_sv, if_neg (fun z => hna z.1), J.gv_sv, if_neg (by omega), e7]; exact Int.le_refl _
        · show J.us h + (7 + N) ≤ _; omega
  refine J.WP_mono _ _ _ _ _ _ _ _ (fun o h' q => ?_) (J.keep hok hk)
  obtain ⟨⟨q1, q2, q3, q4, q5⟩, q6, q7⟩ := q
  subst q1
  exact hQ h' q2 q6 q7 q3 q4 q5
end
end
section
/-! contracts: Arrays.copyOfRange on bytes, StringBuilder.toString -/
set_option maxRecDepth 100000
section
variable {d : Nat} {h : J.H} {Q : J.O → J.H → Prop} {a : Int} {bs : List Int}
theorem J.cor {v n : Int} (hc : J.cl h v = 204) (h0 : 0 ≤ n) (h1 : n ≤ J.ln h v) (h2 : J.ln h v < 100000) (he : v ≠ J.nx h) (hus : J.us h + 7 + n ≤ J.UM) (hd : 3 ≤ d) (hQ : Q (Sum.inl (some (J.R (J.nx h)))) (J.cpy (J.nw h 204 n (7 + n)) v 0 (J.nx h) 0 n)) : J.WP d 117 0 [J.R v, J.I 0, J.I n] [] h Q := by
  rw [b117_0, if_pos rfl, hc]
  refine ⟨by decide, ?_⟩
  by_cases e : n = J.ln h v
  · rw [if_pos e]
    subst e
    exact ⟨⟨rfl, hus⟩, Or.inr (by rw [J.cl_nw, if_pos rfl]; decide), hQ⟩
  · rw [if_neg e, b117_10]
    refine ⟨by omega, ?_⟩
    rw [b118_0]
    refine ⟨by omega, ?_⟩
    rw [b119_0, if_neg (by omega), J.af_v, b118_5, show n - 0 = n by omega, J.w32_id (by omega) (by omega)]
    refine ⟨⟨h0, hus⟩, by rw [J.cl_nw, if_neg he, hc]; decide, by omega, J.math_min ?_⟩
    rw [J.ln_nw, if_neg he, show J.ln h v - 0 = J.ln h v by omega, J.w32_id (by omega) (by omega), if_neg (by omega), J.af_s, b118_27]
    refine ⟨⟨h0, Int.le_refl _, Int.le_refl _, ?_, ?_, ?_, Or.inl ⟨?_, ?_, ?_⟩⟩, ?_⟩
    · rw [J.ln_nw, if_neg he]; omega
    · rw [J.ln_nw, if_pos rfl]; omega
    · rw [J.cl_nw, if_pos rfl]; decide
    · rw [J.cl_nw, if_neg he, hc]; decide
    · rw [J.cl_nw, if_pos rfl]
    · rw [J.cl_nw, if_neg he, hc]; decide
    · rw [J.af_s, b117_16]; exact hQ
theorem J.sb_len (hb : J.SB h a bs) (hd : 1 ≤ d) (hQ : Q (Sum.inl (some (J.I bs.length))) h) : J.WP d 115 0 [J.R a] [] h Q := by
  rw [b115_0, hb.1]
  refine ⟨J.ik4, by omega, ?_⟩
  rw [b116_0, hb.1, hb.2.2.1, J.af_s, b115_4]
  exact ⟨J.sb4, hQ⟩
theorem J.sb_str (hok : J.Ok h) (hb : J.SB h a bs) (hc : J.gv h (-1) 0 = 1) (hus : J.us h + 30 + bs.length ≤ J.UM) (hd : 6 ≤ d)
    (hQ : ∀ h', J.SS h' (J.nx h) bs → J.cl h' (J.nx h) = 23 → J.Ok h' → J.Le h h' → (∀ y i, y < J.nx h → J.gv h' y i = J.gv h y i) → J.us h' ≤ J.us h + 30 + bs.length → Q (Sum.inl (some (J.R (J.nx h)))) h') : J.WP d 111 0 [J.R a] [] h Q := by
  have hk : J.WP d 111 0 [J.R a] [] h (fun o h' => o = Sum.inl (some (J.R (J.nx h))) ∧ J.SS h' (J.nx h) bs ∧ J.cl h' (J.nx h) = 23 ∧ (∀ y i, y < J.nx h → J.gv h' y i = J.gv h y i) ∧ J.us h' ≤ J.us h + 30 + bs.length) := by
    have hnx := hok.2.2
    have hlt : ∀ x : Int, J.cl h x ≠ 0 → x < J.nx h := by
      intro x hx
      rcases Int.lt_or_le x (J.nx h) with w | w
      · exact w
      · exact absurd (hok.2.1 x w) hx
    have ha : a < J.nx h := hlt a (by rw [hb.1]; decide)
    have hv : J.gv h a 7 < J.nx h := hlt _ (by rw [hb.2.2.2.1]; decide)
    have hv0 : 0 < J.gv h a 7 := by
      rcases Int.lt_or_le 0 (J.gv h a 7) with w | w
      · exact w
      · exact absurd (hb.2.2.2.1.symm.trans (hok.1 _ w)) (by decide)
    -- the builder is as it was in every heap below
    have keep : ∀ g : J.H, (∀ x, x < J.nx h → J.cl g x = J.cl h x ∧ J.ln g x = J.ln h x) → (∀ y i, y < J.nx h → J.gv g y i = J.gv h y i) → J.SB g a bs := by
      intro g g1 g2
      obtain ⟨c1, c2, c3, c4, c5, c6, c7⟩ := hb
      refine ⟨by rw [(g1 a ha).1]; exact c1, by rw [g2 a 8 ha]; exact c2, by rw [g2 a 10 ha]; exact c3, ?_, ?_, ?_, fun j hj => ?_⟩
      · rw [g2 a 7 ha, (g1 _ hv).1]; exact c4
      · rw [g2 a 7 ha, (g1 _ hv).2]; exact c5
      · rw [g2 a 7 ha, (g1 _ hv).2]; exact c6
      · rw [g2 a 7 ha, g2 _ j hv]; exact c7 j hj
    have k1 : J.SB (J.nw h 23 0 (11 : Nat)) a bs := keep _ (fun x hx => ⟨by rw [J.cl_nw, if_neg (by omega)], by rw [J.ln_nw, if_neg (by omega)]⟩) (fun y i hy => by rw [J.gv_nw, if_neg (by omega)])
    have hc1 : J.gv (J.nw h 23 0 (11 : Nat)) (-1) 0 = 1 := by rw [J.gv_nw, if_neg (by omega)]; exact hc
    have hs1 : J.cl (J.nw h 23 0 (11 : Nat)) (J.nx h) = 23 := by rw [J.cl_nw, if_pos rfl]
    rw [b111_0]
    refine ⟨by show J.us h + 11 ≤ J.UM; omega, by rw [hs1]; decide, by omega, ?_⟩
    rw [b112_0, hs1]
    refine ⟨by decide, by omega, ?_⟩
    rw [b113_0, hs1]
    refine ⟨by decide, k1.1, by omega, ?_⟩
    rw [b114_0, k1.1, J.af_s, b113_8]
    refine ⟨J.sb4, k1.1, by omega, J.sb_len k1 (by omega) ?_⟩
    rw [J.af_s, b113_13]
    refine ⟨k1.1, by omega, J.sb_latin k1 hc1 ?_⟩
    rw [J.af_s, b113_19, if_neg (by decide), hs1]
    have e7 : J.gv (J.nw h 23 0 (11 : Nat)) a 7 = J.gv h a 7 := by rw [J.gv_nw, if_neg (by omega)]
    rw [e7]
    refine ⟨⟨by decide, by decide, ⟨by decide, by decide⟩⟩, by omega, J.cor ?_ (by omega) ?_ ?_ ?_ ?_ (by omega) ?_⟩
    · rw [J.cl_sv, J.cl_nw, if_neg (by omega)]; exact hb.2.2.2.1
    · rw [J.ln_sv, J.ln_nw, if_neg (by omega)]; exact hb.2.2.2.2.1
    · rw [J.ln_sv, J.ln_nw, if_neg (by omega)]; have := hb.2.2.2.2.2.1; omega
    · rw [J.nx_sv, J.nx_nw]; omega
    · show J.us h + 11 + 7 + _ ≤ _; omega
    · rw [J.af_s, b113_35, b113_97, J.af_v, b112_6, J.af_v, b111_8]
      have hn2 : J.nx (J.sv (J.nw h 23 0 (11 : Nat)) (J.nx h) 171 0) = J.nx h + 1 := rfl
      rw [hn2]
      refine ⟨⟨?_, ?_⟩, rfl, ?_, ?_, fun y i hy => ?_, ?_⟩
      · rw [J.cl_cpy, J.cl_nw, if_neg (show ¬ J.nx h = J.nx (J.sv (J.nw h 23 0 (11 : Nat)) (J.nx h) 171 0) by rw [hn2]; omega), J.cl_sv, hs1]; decide
      · rw [J.cl_cpy, J.cl_nw, if_neg (show ¬ J.nx h = J.nx (J.sv (J.nw h 23 0 (11 : Nat)) (J.nx h) 171 0) by rw [hn2]; omega), J.cl_sv, hs1]; decide
      · have e170 : J.gv (J.sv (J.cpy (J.nw (J.sv (J.nw h 23 0 (11 : Nat)) (J.nx h) 171 0) 204 (bs.length : Int) (7 + (bs.length : Int))) (J.gv h a 7) 0 (J.nx h + 1) 0 (bs.length : Int)) (J.nx h) 170 (J.nx h + 1)) (J.nx h) 170 = J.nx h + 1 := by rw [J.gv_sv, if_pos ⟨rfl, rfl⟩]
        refine ⟨Or.inl ?_, ?_, ⟨Or.inl ?_, ?_, fun j hj => ?_⟩, ?_⟩
        · rw [J.cl_sv, J.cl_cpy, J.cl_nw, if_neg (show ¬ J.nx h = J.nx (J.sv (J.nw h 23 0 (11 : Nat)) (J.nx h) 171 0) by rw [hn2]; omega), J.cl_sv, hs1]
        · rw [J.gv_sv, if_neg (by omega), J.gv_cpy, if_neg (fun z => by omega), J.gv_nw, if_neg (show ¬ J.nx h = J.nx (J.sv (J.nw h 23 0 (11 : Nat)) (J.nx h) 171 0) by rw [hn2]; omega), J.gv_sv, if_pos ⟨rfl, rfl⟩]
        · rw [e170, J.cl_sv, J.cl_cpy, J.cl_nw, if_pos hn2.symm]
        · rw [e170, J.ln_sv, J.ln_cpy, J.ln_nw, if_pos hn2.symm]
        · rw [e170, J.gv_sv, if_neg (fun z => by omega), J.gv_cpy, if_pos ⟨rfl, by omega, by omega⟩, J.gv_nw, if_neg (show ¬ J.gv h a 7 = J.nx (J.sv (J.nw h 23 0 (11 : Nat)) (J.nx h) 171 0) by rw [hn2]; omega), J.gv_sv, if_neg (fun z => by omega), J.gv_nw, if_neg (by omega), show (0 : Int) + ((j : Int) - 0) = j by omega]
          exact hb.2.2.2.2.2.2 j hj
        · have w1 := hb.2.2.2.2.1
          have w2 := hb.2.2.2.2.2.1
          omega
      · rw [J.cl_sv, J.cl_cpy, J.cl_nw, if_neg (show ¬ J.nx h = J.nx (J.sv (J.nw h 23 0 (11 : Nat)) (J.nx h) 171 0) by rw [hn2]; omega), J.cl_sv, hs1]
      · rw [J.gv_sv, if_neg (fun z => by omega), J.gv_cpy, if_neg (fun z => by omega), J.gv_nw, if_neg (show ¬ y = J.nx (J.sv (J.nw h 23 0 (11 : Nat)) (J.nx h) 171 0) by rw [hn2]; omega), J.gv_sv, if_neg (fun z => by omega), J.gv_nw, if_neg (by omega)]
      · show J.us h + 11 + (7 + (bs.length : Int)) ≤ _; omega
  refine J.WP_mono _ _ _ _ _ _ _ _ (fun o h' q => ?_) (J.keep hok hk)
  obtain ⟨⟨q1, q2, q3, q4, q5⟩, q6, q7⟩ := q
  subst q1
  exact hQ h' q2 q3 q6 q7 q4 q5
/-- setLength(0) -/
theorem J.sb_clear (hok : J.Ok h) (hb : J.SB h a bs) (hus : J.us h + 100 + 2 * J.ln h (J.gv h a 7) ≤ J.UM) (hd : 5 ≤ d) (hQ : ∀ h', J.SB h' a [] → J.Ok h' → J.Le h h' → (∀ y i, y ≠ a → J.gv h' y i = J.gv h y i) → J.gv h' a 7 = J.gv h a 7 → J.us h' = J.us h → J.nx h' = J.nx h → Q (Sum.inl none) h') : J.WP d 76 0 [J.R a, J.I 0] [] h Q := by
  have hb0 := hb
  obtain ⟨c1, c2, c3, c4, c5, c6, c7⟩ := hb
  have hva : J.gv h a 7 ≠ a := by
    intro z
    rw [z, c1] at c4; cases c4
  have hne : J.cl h a ≠ 0 := by rw [c1]; decide
  rw [b76_0, c1]
  refine ⟨J.ik4, by omega, ?_⟩
  rw [b77_0, if_neg (by decide)]
  refine ⟨c1, by omega, J.sb_ensure hok hb0 (by omega) (by omega) (by omega) (by omega) (fun _ => ?_) (fun N n1 => by omega)⟩
  rw [J.af_v, b77_18, c1, c3, if_neg (by omega)]
  refine ⟨J.sb4, ?_⟩
  by_cases e : (bs.length : Int) ≤ 0
  · rw [if_pos e, b77_76, c1, J.af_v, b76_5]
    have k := J.Ok_sv hok (a := a) (i := 10) (x := 0) hne
    refine ⟨⟨J.sb4, by decide⟩, hQ _ ⟨c1, by rw [J.gv_sv, if_neg (by omega)]; exact c2, by rw [J.gv_sv, if_pos ⟨rfl, rfl⟩]; rfl, ?_, ?_, ?_, fun j hj => by cases hj⟩ k.1 k.2 (fun y i hy => by rw [J.gv_sv, if_neg (fun z => hy z.1)]) (by rw [J.gv_sv, if_neg (by omega)]) rfl rfl⟩
    · rw [J.gv_sv, if_neg (by omega)]; exact c4
    · rw [J.gv_sv, if_neg (by omega)]; show (0 : Int) ≤ J.ln h (J.gv h a 7); omega
    · rw [J.gv_sv, if_neg (by omega)]; exact c6
  · rw [if_neg e, b77_76, J.cl_sv, c1, J.af_v, b76_5]
    have k0 := J.Ok_sv hok (a := a) (i := 9) (x := 1) hne
    have k := J.Ok_sv k0.1 (a := a) (i := 10) (x := 0) hne
    have g7 : J.gv (J.sv (J.sv h a 9 1) a 10 0) a 7 = J.gv h a 7 := by rw [J.gv_sv, if_neg (by omega), J.gv_sv, if_neg (by omega)]
    refine ⟨⟨J.sb4, by decide, Or.inr rfl⟩, ⟨J.sb4, by decide⟩, hQ _ ⟨c1, by rw [J.gv_sv, if_neg (by omega), J.gv_sv, if_neg (by omega)]; exact c2, by rw [J.gv_sv, if_pos ⟨rfl, rfl⟩]; rfl, ?_, ?_, ?_, fun j hj => by cases hj⟩ k.1 (k0.2.trans k.2) (fun y i hy => by rw [J.gv_sv, if_neg (fun z => hy z.1), J.gv_sv, if_neg (fun z => hy z.1)]) g7 rfl rfl⟩
    · rw [g7]; exact c4
    · rw [g7]; show (0 : Int) ≤ J.ln h (J.gv h a 7); omega
    · rw [g7]; exact c6
end
end
section
/-! contracts: StringBuilder.append(String), its inner part -/
set_option maxRecDepth 100000
section
variable {d : Nat} {h : J.H} {Q : J.O → J.H → Prop} {a b : Int} {bs cs : List Int}
theorem J.s_getb {v : Int} (hs : J.SS h b cs) (hc : J.gv h (-1) 0 = 1) (hv : J.cl h v = 204) {n : Int} (h0 : 0 ≤ n) (h1 : n < 100000) (h2 : n + cs.length ≤ J.ln h v) (hd : 1 ≤ d) (hQ : Q (Sum.inl none) (J.cpy h (J.gv h b 170) 0 v n cs.length)) : J.WP d 104 0 [J.R b, J.R v, J.I n, J.I 0] [] h Q := by
  have key : J.WP (d - 1) 95 0 [J.R b] [] h (J.af J.WP d 104 1 4 [J.R b, J.R v, J.I n, J.I 0] [] Q) := by
    refine J.s_coder hs hc ?_
    rw [J.af_s, b104_4, if_pos rfl, hv, J.shl0 (by omega) (by omega), hs.2.2.1.2.1, b104_43]
    exact ⟨hs.sb, hs.2.2.1.ia, ⟨by omega, by omega, h0, by omega, h2, by decide, Or.inl ⟨hs.2.2.1.isA, rfl, by rcases hs.2.2.1.1 with z | z <;> rw [z] <;> decide⟩⟩, hQ⟩
  rw [b104_0]
  rcases hs.1 with z | z
  · rw [b104_1_c23 _ _ _ _ _ _ _ _ z]; exact ⟨by omega, key⟩
  · rw [b104_1_c321 _ _ _ _ _ _ _ _ z]; exact ⟨by omega, key⟩
theorem J.sb_infl (hb : J.SB h a bs) (hs : J.SS h b cs) (hc : J.gv h (-1) 0 = 1) (hd : 1 ≤ d) (hQ : Q (Sum.inl none) h) : J.WP d 97 0 [J.R a, J.R b] [] h Q := by
  have key : J.WP (d - 1) 95 0 [J.R b] [] h (J.af J.WP d 97 11 14 [J.R a, J.R b] [J.I 0] Q) := by
    refine J.s_coder hs hc ?_
    rw [J.af_s, b97_14, if_pos rfl, b97_21]
    exact hQ
  rw [b97_0, hc, if_neg (by decide), hb.1, hb.2.1]
  refine ⟨J.sb4, ?_⟩
  rcases hs.1 with z | z
  · rw [b97_11_c23 _ _ _ _ _ _ _ z]; exact ⟨by omega, key⟩
  · rw [b97_11_c321 _ _ _ _ _ _ _ z]; exact ⟨by omega, key⟩
theorem J.sb_put (hb : J.SB h a bs) (hs : J.SS h b cs) (hc : J.gv h (-1) 0 = 1) (hr : (bs.length : Int) + cs.length ≤ J.ln h (J.gv h a 7)) (hd : 4 ≤ d) (hQ : Q (Sum.inl (some (J.R a))) (J.sv (J.cpy h (J.gv h b 170) 0 (J.gv h a 7) bs.length cs.length) a 10 ((bs.length : Int) + cs.length))) : J.WP d 86 24 [J.R a, J.R b, J.I cs.length] [] h Q := by
  have hb0 := hb
  obtain ⟨c1, c2, c3, c4, c5, c6, c7⟩ := hb
  have hva : J.gv h a 7 ≠ a := by
    intro z
    rw [z, c1] at c4; cases c4
  rw [b86_24, c1, c3]
  refine ⟨J.sb4, rfl, by omega, ?_⟩
  rw [b96_0]
  refine ⟨c1, by omega, J.sb_infl hb0 hs hc (by omega) ?_⟩
  rw [J.af_v, b96_5, c1, c2]
  refine ⟨J.sb4, ?_⟩
  have key : J.WP (d - 1 - 1) 104 0 [J.R b, J.R (J.gv h a 7), J.I bs.length, J.I 0] [] h (J.af J.WP (d - 1) 96 15 18 [J.R a, J.I bs.length, J.R b] [] (J.af J.WP d 86 30 33 [J.R a, J.R b, J.I cs.length] [] Q)) := by
    refine J.s_getb hs hc c4 (by omega) (by omega) hr (by omega) ?_
    rw [J.af_v, b96_18, J.af_v, b86_33, J.cl_cpy, c1, J.gv_cpy, if_neg (fun z => hva z.1.symm), c3, J.w32_id (by omega) (by omega)]
    exact ⟨J.sb4, ⟨J.sb4, by decide⟩, hQ⟩
  rcases hs.1 with z | z
  · rw [b96_15_c23 _ _ _ _ _ _ _ _ _ _ z]; exact ⟨by omega, key⟩
  · rw [b96_15_c321 _ _ _ _ _ _ _ _ _ _ z]; exact ⟨by omega, key⟩
end
end
section
/-! contracts: StringBuilder.<init>() -/
set_option maxRecDepth 100000
section
variable {d : Nat} {h : J.H} {Q : J.O → J.H → Prop} {a : Int}
theorem J.sb_init (hok : J.Ok h) (ha : J.cl h a = 4) (hc : J.gv h (-1) 0 = 1) (hus : J.us h + 23 ≤ J.UM) (hd : 1 ≤ d) (hQ : Q (Sum.inl none) (J.sv (J.sv (J.nw h 204 16 (7 + 16)) a 7 (J.nx h)) a 8 0)) : J.WP d 4 0 [J.R a] [] h Q := by
  have hna : a ≠ J.nx h := by
    intro z
    have := hok.2.1 a (by omega)
    rw [this] at ha; cases ha
  rw [b4_0, ha]
  refine ⟨J.ik4, by omega, ?_⟩
  rw [b5_0, ha, hc, if_neg (by decide), J.cl_nw, if_neg hna, ha, b5_38, J.af_v, b4_6]
  exact ⟨J.ik4, ⟨by decide, by omega⟩, ⟨J.sb4, by decide⟩, ⟨J.sb4, by decide, ⟨by decide, by decide⟩⟩, hQ⟩
theorem J.SB_new (hok : J.Ok h) (ha : J.cl h a = 4) (h10 : J.gv h a 10 = 0) : J.SB (J.sv (J.sv (J.nw h 204 16 (7 + 16)) a 7 (J.nx h)) a 8 0) a [] := by
  have hna : a ≠ J.nx h := by
    intro z
    have := hok.2.1 a (by omega)
    rw [this] at ha; cases ha
  have e7 : J.gv (J.sv (J.sv (J.nw h 204 16 (7 + 16)) a 7 (J.nx h)) a 8 0) a 7 = J.nx h := by rw [J.gv_sv, if_neg (by omega), J.gv_sv, if_pos ⟨rfl, rfl⟩]
  refine ⟨?_, by rw [J.gv_sv, if_pos ⟨rfl, rfl⟩], ?_, ?_, ?_, ?_, fun j hj => by cases hj⟩
  · rw [J.cl_sv, J.cl_sv, J.cl_nw, if_neg hna]; exact ha
  · rw [J.gv_sv, if_neg (by omega), J.gv_sv, if_neg (by omega), J.gv_nw, if_neg hna, h10]; rfl
  · rw [e7, J.cl_sv, J.cl_sv, J.cl_nw, if_pos rfl]
  · rw [e7, J.ln_sv, J.ln_sv, J.ln_nw, if_pos rfl]; decide
  · rw [e7, J.ln_sv, J.ln_sv, J.ln_nw, if_pos rfl]; decide
end
end
