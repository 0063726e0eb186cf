set_option maxRecDepth 100000
theorem gm_cw_1 : gm_cw 1 ∈ lw_tbl := lw_at lw_m7 56 rfl
theorem gm_cw_2 : gm_cw 2 ∈ lw_tbl := lw_at lw_m8 81 rfl
theorem gm_cw_3 : gm_cw 3 ∈ lw_tbl := lw_at lw_m7 183 rfl
theorem gm_cw_4 : gm_cw 4 ∈ lw_tbl := lw_at lw_m7 52 rfl
theorem gm_cw_5 : gm_cw 5 ∈ lw_tbl := lw_at lw_m4 75 rfl
theorem gm_cw_6 : gm_cw 6 ∈ lw_tbl := lw_at lw_m10 69 rfl
theorem gm_cw_7 : gm_cw 7 ∈ lw_tbl := lw_at lw_m11 40 rfl
theorem gm_cw_8 : gm_cw 8 ∈ lw_tbl := lw_at lw_m11 64 rfl
theorem gm_cw_9 : gm_cw 9 ∈ lw_tbl := lw_at lw_m12 40 rfl
theorem gm_cw_10 : gm_cw 10 ∈ lw_tbl := lw_at lw_m9 218 rfl
theorem gm_cw_11 : gm_cw 11 ∈ lw_tbl := lw_at lw_m7 79 rfl
theorem gm_cw_12 : gm_cw 12 ∈ lw_tbl := lw_at lw_m8 145 rfl
theorem gm_cw_13 : gm_cw 13 ∈ lw_tbl := lw_at lw_m11 83 rfl
theorem gm_cw_14 : gm_cw 14 ∈ lw_tbl := lw_at lw_m10 172 rfl
theorem gm_cw_15 : gm_cw 15 ∈ lw_tbl := lw_at lw_m7 83 rfl
theorem gm_cw_16 : gm_cw 16 ∈ lw_tbl := lw_at lw_m9 90 rfl
theorem gm_cw_17 : gm_cw 17 ∈ lw_tbl := lw_at lw_m11 77 rfl
theorem gm_cw_18 : gm_cw 18 ∈ lw_tbl := lw_at lw_m10 5 rfl
theorem gm_cw_19 : gm_cw 19 ∈ lw_tbl := lw_at lw_m5 30 rfl
theorem gm_cw_20 : gm_cw 20 ∈ lw_tbl := lw_at lw_m5 33 rfl
theorem gm_cw_21 : gm_cw 21 ∈ lw_tbl := lw_at lw_m7 177 rfl
theorem gm_cw_22 : gm_cw 22 ∈ lw_tbl := lw_at lw_m1 68 rfl
theorem gm_cw_23 : gm_cw 23 ∈ lw_tbl := lw_at lw_m6 196 rfl
theorem gm_cw_24 : gm_cw 24 ∈ lw_tbl := lw_at lw_m1 98 rfl
theorem gm_cw_25 : gm_cw 25 ∈ lw_tbl := lw_at lw_m7 154 rfl
theorem gm_cw_26 : gm_cw 26 ∈ lw_tbl := lw_at lw_m7 158 rfl
theorem gm_cw_27 : gm_cw 27 ∈ lw_tbl := lw_at lw_m7 162 rfl
theorem gm_cw_28 : gm_cw 28 ∈ lw_tbl := lw_at lw_m5 51 rfl
theorem gm_cw_29 : gm_cw 29 ∈ lw_tbl := lw_at lw_m8 20 rfl
theorem gm_cw_30 : gm_cw 30 ∈ lw_tbl := lw_at lw_m7 101 rfl
theorem gm_cw_31 : gm_cw 31 ∈ lw_tbl := lw_at lw_m5 63 rfl
theorem gm_cw_32 : gm_cw 32 ∈ lw_tbl := lw_at lw_m14 98 rfl
theorem gm_cwl_1 : ∀ k ∈ List.range' 1 32, gm_cw k ∈ lw_tbl := by
  show ∀ k ∈ [1, 2, 3, 4, 5, 6, 7, 8, 9, 10, 11, 12, 13, 14, 15, 16, 17, 18, 19, 20, 21, 22, 23, 24, 25, 26, 27, 28, 29, 30, 31, 32], gm_cw k ∈ lw_tbl
  exact List.forall_mem_cons.mpr ⟨gm_cw_1, List.forall_mem_cons.mpr ⟨gm_cw_2, List.forall_mem_cons.mpr ⟨gm_cw_3, List.forall_mem_cons.mpr ⟨gm_cw_4, List.forall_mem_cons.mpr ⟨gm_cw_5, List.forall_mem_cons.mpr ⟨gm_cw_6, List.forall_mem_cons.mpr ⟨gm_cw_7, List.forall_mem_cons.mpr ⟨gm_cw_8, List.forall_mem_cons.mpr ⟨gm_cw_9, List.forall_mem_cons.mpr ⟨gm_cw_10, List.forall_mem_cons.mpr ⟨gm_cw_11, List.forall_mem_cons.mpr ⟨gm_cw_12, List.forall_mem_cons.mpr ⟨gm_cw_13, List.forall_mem_cons.mpr ⟨gm_cw_14, List.forall_mem_cons.mpr ⟨gm_cw_15, List.forall_mem_cons.mpr ⟨gm_cw_16, List.forall_mem_cons.mpr ⟨gm_cw_17, List.forall_mem_cons.mpr ⟨gm_cw_18, List.forall_mem_cons.mpr ⟨gm_cw_19, List.forall_mem_cons.mpr ⟨gm_cw_20, List.forall_mem_cons.mpr ⟨gm_cw_21, List.forall_mem_cons.mpr ⟨gm_cw_22, List.forall_mem_cons.mpr ⟨gm_cw_23, List.forall_mem_cons.mpr ⟨gm_cw_24, List.forall_mem_cons.mpr ⟨gm_cw_25, List.forall_mem_cons.mpr ⟨gm_cw_26, List.forall_mem_cons.mpr ⟨gm_cw_27, List.forall_mem_cons.mpr ⟨gm_cw_28, List.forall_mem_cons.mpr ⟨gm_cw_29, List.forall_mem_cons.mpr ⟨gm_cw_30, List.forall_mem_cons.mpr ⟨gm_cw_31, List.forall_mem_cons.mpr ⟨gm_cw_32, fun _ h => absurd h List.not_mem_nil⟩⟩⟩⟩⟩⟩⟩⟩⟩⟩⟩⟩⟩⟩⟩⟩⟩⟩⟩⟩⟩⟩⟩⟩⟩⟩⟩⟩⟩⟩⟩⟩
theorem gm_cw_33 : gm_cw 33 ∈ lw_tbl := lw_at lw_m7 73 rfl
theorem gm_cw_34 : gm_cw 34 ∈ lw_tbl := lw_at lw_m4 234 rfl
theorem gm_cw_35 : gm_cw 35 ∈ lw_tbl := lw_at lw_m7 119 rfl
theorem gm_cw_36 : gm_cw 36 ∈ lw_tbl := lw_at lw_m1 123 rfl
theorem gm_cw_37 : gm_cw 37 ∈ lw_tbl := lw_at lw_m5 76 rfl
theorem gm_cw_38 : gm_cw 38 ∈ lw_tbl := lw_at lw_m5 9 rfl
theorem gm_cw_39 : gm_cw 39 ∈ lw_tbl := lw_at lw_m9 8 rfl
theorem gm_cw_40 : gm_cw 40 ∈ lw_tbl := lw_at lw_m5 13 rfl
theorem gm_cw_41 : gm_cw 41 ∈ lw_tbl := lw_at lw_m5 5 rfl
theorem gm_cw_42 : gm_cw 42 ∈ lw_tbl := lw_at lw_m14 101 rfl
theorem gm_cw_43 : gm_cw 43 ∈ lw_tbl := lw_at lw_m7 166 rfl
theorem gm_cw_44 : gm_cw 44 ∈ lw_tbl := lw_at lw_m7 76 rfl
theorem gm_cw_45 : gm_cw 45 ∈ lw_tbl := lw_at lw_m4 237 rfl
theorem gm_cw_46 : gm_cw 46 ∈ lw_tbl := lw_at lw_m7 122 rfl
theorem gm_cw_47 : gm_cw 47 ∈ lw_tbl := lw_at lw_m1 236 rfl
theorem gm_cw_48 : gm_cw 48 ∈ lw_tbl := lw_at lw_m7 199 rfl
theorem gm_cw_49 : gm_cw 49 ∈ lw_tbl := lw_at lw_m2 3 rfl
theorem gm_cw_50 : gm_cw 50 ∈ lw_tbl := lw_at lw_m7 205 rfl
theorem gm_cw_51 : gm_cw 51 ∈ lw_tbl := lw_at lw_m2 10 rfl
theorem gm_cw_52 : gm_cw 52 ∈ lw_tbl := lw_at lw_m7 193 rfl
theorem gm_cw_53 : gm_cw 53 ∈ lw_tbl := lw_at lw_m8 158 rfl
theorem gm_cw_54 : gm_cw 54 ∈ lw_tbl := lw_at lw_m2 23 rfl
theorem gm_cw_55 : gm_cw 55 ∈ lw_tbl := lw_at lw_m9 16 rfl
theorem gm_cw_56 : gm_cw 56 ∈ lw_tbl := lw_at lw_m8 183 rfl
theorem gm_cw_57 : gm_cw 57 ∈ lw_tbl := lw_at lw_m5 25 rfl
theorem gm_cw_58 : gm_cw 58 ∈ lw_tbl := lw_at lw_m2 34 rfl
theorem gm_cw_59 : gm_cw 59 ∈ lw_tbl := lw_at lw_m8 108 rfl
theorem gm_cw_60 : gm_cw 60 ∈ lw_tbl := lw_at lw_m5 21 rfl
theorem gm_cw_61 : gm_cw 61 ∈ lw_tbl := lw_at lw_m14 124 rfl
theorem gm_cw_62 : gm_cw 62 ∈ lw_tbl := lw_at lw_m2 70 rfl
theorem gm_cw_63 : gm_cw 63 ∈ lw_tbl := lw_at lw_m4 83 rfl
theorem gm_cw_64 : gm_cw 64 ∈ lw_tbl := lw_at lw_m13 212 rfl
theorem gm_cwl_33 : ∀ k ∈ List.range' 33 32, gm_cw k ∈ lw_tbl := by
  show ∀ k ∈ [33, 34, 35, 36, 37, 38, 39, 40, 41, 42, 43, 44, 45, 46, 47, 48, 49, 50, 51, 52, 53, 54, 55, 56, 57, 58, 59, 60, 61, 62, 63, 64], gm_cw k ∈ lw_tbl
  exact List.forall_mem_cons.mpr ⟨gm_cw_33, List.forall_mem_cons.mpr ⟨gm_cw_34, List.forall_mem_cons.mpr ⟨gm_cw_35, List.forall_mem_cons.mpr ⟨gm_cw_36, List.forall_mem_cons.mpr ⟨gm_cw_37, List.forall_mem_cons.mpr ⟨gm_cw_38, List.forall_mem_cons.mpr ⟨gm_cw_39, List.forall_mem_cons.mpr ⟨gm_cw_40, List.forall_mem_cons.mpr ⟨gm_cw_41, List.forall_mem_cons.mpr ⟨gm_cw_42, List.forall_mem_cons.mpr ⟨gm_cw_43, List.forall_mem_cons.mpr ⟨gm_cw_44, List.forall_mem_cons.mpr ⟨gm_cw_45, List.forall_mem_cons.mpr ⟨gm_cw_46, List.forall_mem_cons.mpr ⟨gm_cw_47, List.forall_mem_cons.mpr ⟨gm_cw_48, List.forall_mem_cons.mpr ⟨gm_cw_49, List.forall_mem_cons.mpr ⟨gm_cw_50, List.forall_mem_cons.mpr ⟨gm_cw_51, List.forall_mem_cons.mpr ⟨gm_cw_52, List.forall_mem_cons.mpr ⟨gm_cw_53, List.forall_mem_cons.mpr ⟨gm_cw_54, List.forall_mem_cons.mpr ⟨gm_cw_55, List.forall_mem_cons.mpr ⟨gm_cw_56, List.forall_mem_cons.mpr ⟨gm_cw_57, List.forall_mem_cons.mpr ⟨gm_cw_58, List.forall_mem_cons.mpr ⟨gm_cw_59, List.forall_mem_cons.mpr ⟨gm_cw_60, List.forall_mem_cons.mpr ⟨gm_cw_61, List.forall_mem_cons.mpr ⟨gm_cw_62, List.forall_mem_cons.mpr ⟨gm_cw_63, List.forall_mem_cons.mpr ⟨gm_cw_64, fun _ h => absurd h List.not_mem_nil⟩⟩⟩⟩⟩⟩⟩⟩⟩⟩⟩⟩⟩⟩⟩⟩⟩⟩⟩⟩⟩⟩⟩⟩⟩⟩⟩⟩⟩⟩⟩⟩
theorem gm_cw_65 : gm_cw 65 ∈ lw_tbl := lw_at lw_m4 180 rfl
theorem gm_cw_66 : gm_cw 66 ∈ lw_tbl := lw_at lw_m2 95 rfl
theorem gm_cw_67 : gm_cw 67 ∈ lw_tbl := lw_at lw_m11 160 rfl
theorem gm_cw_68 : gm_cw 68 ∈ lw_tbl := lw_at lw_m5 41 rfl
theorem gm_cw_69 : gm_cw 69 ∈ lw_tbl := lw_at lw_m6 212 rfl
theorem gm_cw_70 : gm_cw 70 ∈ lw_tbl := lw_at lw_m2 110 rfl
theorem gm_cw_71 : gm_cw 71 ∈ lw_tbl := lw_at lw_m6 221 rfl
theorem gm_cw_72 : gm_cw 72 ∈ lw_tbl := lw_at lw_m12 109 rfl
theorem gm_cw_73 : gm_cw 73 ∈ lw_tbl := lw_at lw_m12 230 rfl
theorem gm_cw_74 : gm_cw 74 ∈ lw_tbl := lw_at lw_m12 117 rfl
theorem gm_cw_75 : gm_cw 75 ∈ lw_tbl := lw_at lw_m10 17 rfl
theorem gm_cw_76 : gm_cw 76 ∈ lw_tbl := lw_at lw_m13 6 rfl
theorem gm_cw_77 : gm_cw 77 ∈ lw_tbl := lw_at lw_m11 206 rfl
theorem gm_cw_78 : gm_cw 78 ∈ lw_tbl := lw_at lw_m12 121 rfl
theorem gm_cw_79 : gm_cw 79 ∈ lw_tbl := lw_at lw_m4 95 rfl
theorem gm_cw_80 : gm_cw 80 ∈ lw_tbl := lw_at lw_m2 123 rfl
theorem gm_cw_81 : gm_cw 81 ∈ lw_tbl := lw_at lw_m6 225 rfl
theorem gm_cw_82 : gm_cw 82 ∈ lw_tbl := lw_at lw_m10 25 rfl
theorem gm_cw_83 : gm_cw 83 ∈ lw_tbl := lw_at lw_m10 187 rfl
theorem gm_cw_84 : gm_cw 84 ∈ lw_tbl := lw_at lw_m6 229 rfl
theorem gm_cw_85 : gm_cw 85 ∈ lw_tbl := lw_at lw_m10 33 rfl
theorem gm_cw_86 : gm_cw 86 ∈ lw_tbl := lw_at lw_m2 208 rfl
theorem gm_cw_87 : gm_cw 87 ∈ lw_tbl := lw_at lw_m14 137 rfl
theorem gm_cw_88 : gm_cw 88 ∈ lw_tbl := lw_at lw_m17 83 rfl
theorem gm_cw_89 : gm_cw 89 ∈ lw_tbl := lw_at lw_m20 14 rfl
theorem gm_cw_90 : gm_cw 90 ∈ lw_tbl := lw_at lw_m17 7 rfl
theorem gm_cw_91 : gm_cw 91 ∈ lw_tbl := lw_at lw_m18 31 rfl
theorem gm_cw_92 : gm_cw 92 ∈ lw_tbl := lw_at lw_m16 184 rfl
theorem gm_cw_93 : gm_cw 93 ∈ lw_tbl := lw_at lw_m17 87 rfl
theorem gm_cw_94 : gm_cw 94 ∈ lw_tbl := lw_at lw_m19 72 rfl
theorem gm_cw_95 : gm_cw 95 ∈ lw_tbl := lw_at lw_m17 79 rfl
theorem gm_cw_96 : gm_cw 96 ∈ lw_tbl := lw_at lw_m19 157 rfl
theorem gm_cwl_65 : ∀ k ∈ List.range' 65 32, gm_cw k ∈ lw_tbl := by
  show ∀ k ∈ [65, 66, 67, 68, 69, 70, 71, 72, 73, 74, 75, 76, 77, 78, 79, 80, 81, 82, 83, 84, 85, 86, 87, 88, 89, 90, 91, 92, 93, 94, 95, 96], gm_cw k ∈ lw_tbl
  exact List.forall_mem_cons.mpr ⟨gm_cw_65, List.forall_mem_cons.mpr ⟨gm_cw_66, List.forall_mem_cons.mpr ⟨gm_cw_67, List.forall_mem_cons.mpr ⟨gm_cw_68, List.forall_mem_cons.mpr ⟨gm_cw_69, List.forall_mem_cons.mpr ⟨gm_cw_70, List.forall_mem_cons.mpr ⟨gm_cw_71, List.forall_mem_cons.mpr ⟨gm_cw_72, List.forall_mem_cons.mpr ⟨gm_cw_73, List.forall_mem_cons.mpr ⟨gm_cw_74, List.forall_mem_cons.mpr ⟨gm_cw_75, List.forall_mem_cons.mpr ⟨gm_cw_76, List.forall_mem_cons.mpr ⟨gm_cw_77, List.forall_mem_cons.mpr ⟨gm_cw_78, List.forall_mem_cons.mpr ⟨gm_cw_79, List.forall_mem_cons.mpr ⟨gm_cw_80, List.forall_mem_cons.mpr ⟨gm_cw_81, List.forall_mem_cons.mpr ⟨gm_cw_82, List.forall_mem_cons.mpr ⟨gm_cw_83, List.forall_mem_cons.mpr ⟨gm_cw_84, List.forall_mem_cons.mpr ⟨gm_cw_85, List.forall_mem_cons.mpr ⟨gm_cw_86, List.forall_mem_cons.mpr ⟨gm_cw_87, List.forall_mem_cons.mpr ⟨gm_cw_88, List.forall_mem_cons.mpr ⟨gm_cw_89, List.forall_mem_cons.mpr ⟨gm_cw_90, List.forall_mem_cons.mpr ⟨gm_cw_91, List.forall_mem_cons.mpr ⟨gm_cw_92, List.forall_mem_cons.mpr ⟨gm_cw_93, List.forall_mem_cons.mpr ⟨gm_cw_94, List.forall_mem_cons.mpr ⟨gm_cw_95, List.forall_mem_cons.mpr ⟨gm_cw_96, fun _ h => absurd h List.not_mem_nil⟩⟩⟩⟩⟩⟩⟩⟩⟩⟩⟩⟩⟩⟩⟩⟩⟩⟩⟩⟩⟩⟩⟩⟩⟩⟩⟩⟩⟩⟩⟩⟩
theorem gm_cw_97 : gm_cw 97 ∈ lw_tbl := lw_at lw_m18 7 rfl
theorem gm_cw_98 : gm_cw 98 ∈ lw_tbl := lw_at lw_m17 75 rfl
theorem gm_cw_99 : gm_cw 99 ∈ lw_tbl := lw_at lw_m17 115 rfl
theorem gm_cw_100 : gm_cw 100 ∈ lw_tbl := lw_at lw_m18 57 rfl
theorem gm_cw_101 : gm_cw 101 ∈ lw_tbl := lw_at lw_m16 160 rfl
theorem gm_cw_102 : gm_cw 102 ∈ lw_tbl := lw_at lw_m17 163 rfl
theorem gm_cw_103 : gm_cw 103 ∈ lw_tbl := lw_at lw_m19 108 rfl
theorem gm_cw_104 : gm_cw 104 ∈ lw_tbl := lw_at lw_m16 135 rfl
theorem gm_cw_105 : gm_cw 105 ∈ lw_tbl := lw_at lw_m16 148 rfl
theorem gm_cw_106 : gm_cw 106 ∈ lw_tbl := lw_at lw_m16 239 rfl
theorem gm_cw_107 : gm_cw 107 ∈ lw_tbl := lw_at lw_m16 188 rfl
theorem gm_cw_108 : gm_cw 108 ∈ lw_tbl := lw_at lw_m17 103 rfl
theorem gm_cw_109 : gm_cw 109 ∈ lw_tbl := lw_at lw_m17 107 rfl
theorem gm_cw_110 : gm_cw 110 ∈ lw_tbl := lw_at lw_m16 131 rfl
theorem gm_cw_111 : gm_cw 111 ∈ lw_tbl := lw_at lw_m17 31 rfl
theorem gm_cw_112 : gm_cw 112 ∈ lw_tbl := lw_at lw_m19 76 rfl
theorem gm_cw_113 : gm_cw 113 ∈ lw_tbl := lw_at lw_m19 145 rfl
theorem gm_cw_114 : gm_cw 114 ∈ lw_tbl := lw_at lw_m19 229 rfl
theorem gm_cw_115 : gm_cw 115 ∈ lw_tbl := lw_at lw_m16 235 rfl
theorem gm_cw_116 : gm_cw 116 ∈ lw_tbl := lw_at lw_m18 3 rfl
theorem gm_cw_117 : gm_cw 117 ∈ lw_tbl := lw_at lw_m17 191 rfl
theorem gm_cw_118 : gm_cw 118 ∈ lw_tbl := lw_at lw_m17 171 rfl
theorem gm_cw_119 : gm_cw 119 ∈ lw_tbl := lw_at lw_m16 203 rfl
theorem gm_cw_120 : gm_cw 120 ∈ lw_tbl := lw_at lw_m18 105 rfl
theorem gm_cw_121 : gm_cw 121 ∈ lw_tbl := lw_at lw_m16 207 rfl
theorem gm_cw_122 : gm_cw 122 ∈ lw_tbl := lw_at lw_m18 19 rfl
theorem gm_cw_123 : gm_cw 123 ∈ lw_tbl := lw_at lw_m18 204 rfl
theorem gm_cw_124 : gm_cw 124 ∈ lw_tbl := lw_at lw_m17 155 rfl
theorem gm_cw_125 : gm_cw 125 ∈ lw_tbl := lw_at lw_m19 104 rfl
theorem gm_cw_126 : gm_cw 126 ∈ lw_tbl := lw_at lw_m18 196 rfl
theorem gm_cw_127 : gm_cw 127 ∈ lw_tbl := lw_at lw_m18 156 rfl
theorem gm_cw_128 : gm_cw 128 ∈ lw_tbl := lw_at lw_m19 133 rfl
theorem gm_cwl_97 : ∀ k ∈ List.range' 97 32, gm_cw k ∈ lw_tbl := by
  show ∀ k ∈ [97, 98, 99, 100, 101, 102, 103, 104, 105, 106, 107, 108, 109, 110, 111, 112, 113, 114, 115, 116, 117, 118, 119, 120, 121, 122, 123, 124, 125, 126, 127, 128], gm_cw k ∈ lw_tbl
  exact List.forall_mem_cons.mpr ⟨gm_cw_97, List.forall_mem_cons.mpr ⟨gm_cw_98, List.forall_mem_cons.mpr ⟨gm_cw_99, List.forall_mem_cons.mpr ⟨gm_cw_100, List.forall_mem_cons.mpr ⟨gm_cw_101, List.forall_mem_cons.mpr ⟨gm_cw_102, List.forall_mem_cons.mpr ⟨gm_cw_103, List.forall_mem_cons.mpr ⟨gm_cw_104, List.forall_mem_cons.mpr ⟨gm_cw_105, List.forall_mem_cons.mpr ⟨gm_cw_106, List.forall_mem_cons.mpr ⟨gm_cw_107, List.forall_mem_cons.mpr ⟨gm_cw_108, List.forall_mem_cons.mpr ⟨gm_cw_109, List.forall_mem_cons.mpr ⟨gm_cw_110, List.forall_mem_cons.mpr ⟨gm_cw_111, List.forall_mem_cons.mpr ⟨gm_cw_112, List.forall_mem_cons.mpr ⟨gm_cw_113, List.forall_mem_cons.mpr ⟨gm_cw_114, List.forall_mem_cons.mpr ⟨gm_cw_115, List.forall_mem_cons.mpr ⟨gm_cw_116, List.forall_mem_cons.mpr ⟨gm_cw_117, List.forall_mem_cons.mpr ⟨gm_cw_118, List.forall_mem_cons.mpr ⟨gm_cw_119, List.forall_mem_cons.mpr ⟨gm_cw_120, List.forall_mem_cons.mpr ⟨gm_cw_121, List.forall_mem_cons.mpr ⟨gm_cw_122, List.forall_mem_cons.mpr ⟨gm_cw_123, List.forall_mem_cons.mpr ⟨gm_cw_124, List.forall_mem_cons.mpr ⟨gm_cw_125, List.forall_mem_cons.mpr ⟨gm_cw_126, List.forall_mem_cons.mpr ⟨gm_cw_127, List.forall_mem_cons.mpr ⟨gm_cw_128, fun _ h => absurd h List.not_mem_nil⟩⟩⟩⟩⟩⟩⟩⟩⟩⟩⟩⟩⟩⟩⟩⟩⟩⟩⟩⟩⟩⟩⟩⟩⟩⟩⟩⟩⟩⟩⟩⟩
theorem gm_cw_129 : gm_cw 129 ∈ lw_tbl := lw_at lw_m17 135 rfl
theorem gm_cw_130 : gm_cw 130 ∈ lw_tbl := lw_at lw_m18 97 rfl
theorem gm_cw_131 : gm_cw 131 ∈ lw_tbl := lw_at lw_m19 28 rfl
theorem gm_cw_132 : gm_cw 132 ∈ lw_tbl := lw_at lw_m16 156 rfl
theorem gm_cw_133 : gm_cw 133 ∈ lw_tbl := lw_at lw_m19 80 rfl
theorem gm_cw_134 : gm_cw 134 ∈ lw_tbl := lw_at lw_m19 12 rfl
theorem gm_cw_135 : gm_cw 135 ∈ lw_tbl := lw_at lw_m16 168 rfl
theorem gm_cw_136 : gm_cw 136 ∈ lw_tbl := lw_at lw_m19 24 rfl
theorem gm_cw_137 : gm_cw 137 ∈ lw_tbl := lw_at lw_m17 183 rfl
theorem gm_cw_138 : gm_cw 138 ∈ lw_tbl := lw_at lw_m18 144 rfl
theorem gm_cw_139 : gm_cw 139 ∈ lw_tbl := lw_at lw_m17 47 rfl
theorem gm_cw_140 : gm_cw 140 ∈ lw_tbl := lw_at lw_m18 77 rfl
theorem gm_cw_141 : gm_cw 141 ∈ lw_tbl := lw_at lw_m16 139 rfl
theorem gm_cw_142 : gm_cw 142 ∈ lw_tbl := lw_at lw_m17 235 rfl
theorem gm_cw_143 : gm_cw 143 ∈ lw_tbl := lw_at lw_m18 113 rfl
theorem gm_cw_144 : gm_cw 144 ∈ lw_tbl := lw_at lw_m16 180 rfl
theorem gm_cw_145 : gm_cw 145 ∈ lw_tbl := lw_at lw_m17 43 rfl
theorem gm_cw_146 : gm_cw 146 ∈ lw_tbl := lw_at lw_m19 201 rfl
theorem gm_cw_147 : gm_cw 147 ∈ lw_tbl := lw_at lw_m19 8 rfl
theorem gm_cw_148 : gm_cw 148 ∈ lw_tbl := lw_at lw_m17 59 rfl
theorem gm_cw_149 : gm_cw 149 ∈ lw_tbl := lw_at lw_m17 131 rfl
theorem gm_cw_150 : gm_cw 150 ∈ lw_tbl := lw_at lw_m19 189 rfl
theorem gm_cw_151 : gm_cw 151 ∈ lw_tbl := lw_at lw_m19 0 rfl
theorem gm_cw_152 : gm_cw 152 ∈ lw_tbl := lw_at lw_m16 219 rfl
theorem gm_cw_153 : gm_cw 153 ∈ lw_tbl := lw_at lw_m16 223 rfl
theorem gm_cw_154 : gm_cw 154 ∈ lw_tbl := lw_at lw_m19 169 rfl
theorem gm_cw_155 : gm_cw 155 ∈ lw_tbl := lw_at lw_m19 141 rfl
theorem gm_cw_156 : gm_cw 156 ∈ lw_tbl := lw_at lw_m19 100 rfl
theorem gm_cw_157 : gm_cw 157 ∈ lw_tbl := lw_at lw_m19 221 rfl
theorem gm_cw_158 : gm_cw 158 ∈ lw_tbl := lw_at lw_m19 217 rfl
theorem gm_cw_159 : gm_cw 159 ∈ lw_tbl := lw_at lw_m18 51 rfl
theorem gm_cw_160 : gm_cw 160 ∈ lw_tbl := lw_at lw_m17 91 rfl
theorem gm_cwl_129 : ∀ k ∈ List.range' 129 32, gm_cw k ∈ lw_tbl := by
  show ∀ k ∈ [129, 130, 131, 132, 133, 134, 135, 136, 137, 138, 139, 140, 141, 142, 143, 144, 145, 146, 147, 148, 149, 150, 151, 152, 153, 154, 155, 156, 157, 158, 159, 160], gm_cw k ∈ lw_tbl
  exact List.forall_mem_cons.mpr ⟨gm_cw_129, List.forall_mem_cons.mpr ⟨gm_cw_130, List.forall_mem_cons.mpr ⟨gm_cw_131, List.forall_mem_cons.mpr ⟨gm_cw_132, List.forall_mem_cons.mpr ⟨gm_cw_133, List.forall_mem_cons.mpr ⟨gm_cw_134, List.forall_mem_cons.mpr ⟨gm_cw_135, List.forall_mem_cons.mpr ⟨gm_cw_136, List.forall_mem_cons.mpr ⟨gm_cw_137, List.forall_mem_cons.mpr ⟨gm_cw_138, List.forall_mem_cons.mpr ⟨gm_cw_139, List.forall_mem_cons.mpr ⟨gm_cw_140, List.forall_mem_cons.mpr ⟨gm_cw_141, List.forall_mem_cons.mpr ⟨gm_cw_142, List.forall_mem_cons.mpr ⟨gm_cw_143, List.forall_mem_cons.mpr ⟨gm_cw_144, List.forall_mem_cons.mpr ⟨gm_cw_145, List.forall_mem_cons.mpr ⟨gm_cw_146, List.forall_mem_cons.mpr ⟨gm_cw_147, List.forall_mem_cons.mpr ⟨gm_cw_148, List.forall_mem_cons.mpr ⟨gm_cw_149, List.forall_mem_cons.mpr ⟨gm_cw_150, List.forall_mem_cons.mpr ⟨gm_cw_151, List.forall_mem_cons.mpr ⟨gm_cw_152, List.forall_mem_cons.mpr ⟨gm_cw_153, List.forall_mem_cons.mpr ⟨gm_cw_154, List.forall_mem_cons.mpr ⟨gm_cw_155, List.forall_mem_cons.mpr ⟨gm_cw_156, List.forall_mem_cons.mpr ⟨gm_cw_157, List.forall_mem_cons.mpr ⟨gm_cw_158, List.forall_mem_cons.mpr ⟨gm_cw_159, List.forall_mem_cons.mpr ⟨gm_cw_160, fun _ h => absurd h List.not_mem_nil⟩⟩⟩⟩⟩⟩⟩⟩⟩⟩⟩⟩⟩⟩⟩⟩⟩⟩⟩⟩⟩⟩⟩⟩⟩⟩⟩⟩⟩⟩⟩⟩
theorem gm_cw_161 : gm_cw 161 ∈ lw_tbl := lw_at lw_m18 37 rfl
theorem gm_cw_162 : gm_cw 162 ∈ lw_tbl := lw_at lw_m20 26 rfl
theorem gm_cw_163 : gm_cw 163 ∈ lw_tbl := lw_at lw_m18 236 rfl
theorem gm_cw_164 : gm_cw 164 ∈ lw_tbl := lw_at lw_m16 152 rfl
theorem gm_cw_165 : gm_cw 165 ∈ lw_tbl := lw_at lw_m17 111 rfl
theorem gm_cw_166 : gm_cw 166 ∈ lw_tbl := lw_at lw_m4 111 rfl
theorem gm_cw_167 : gm_cw 167 ∈ lw_tbl := lw_at lw_m7 95 rfl
theorem gm_cw_168 : gm_cw 168 ∈ lw_tbl := lw_at lw_m7 225 rfl
theorem gm_cw_169 : gm_cw 169 ∈ lw_tbl := lw_at lw_m14 88 rfl
theorem gm_cw_170 : gm_cw 170 ∈ lw_tbl := lw_at lw_m7 132 rfl
theorem gm_cw_171 : gm_cw 171 ∈ lw_tbl := lw_at lw_m5 84 rfl
theorem gm_cw_172 : gm_cw 172 ∈ lw_tbl := lw_at lw_m6 184 rfl
theorem gm_cw_173 : gm_cw 173 ∈ lw_tbl := lw_at lw_m7 48 rfl
theorem gm_cw_174 : gm_cw 174 ∈ lw_tbl := lw_at lw_m9 234 rfl
theorem gm_cw_175 : gm_cw 175 ∈ lw_tbl := lw_at lw_m10 105 rfl
theorem gm_cw_176 : gm_cw 176 ∈ lw_tbl := lw_at lw_m10 21 rfl
theorem gm_cw_177 : gm_cw 177 ∈ lw_tbl := lw_at lw_m10 117 rfl
theorem gm_cw_178 : gm_cw 178 ∈ lw_tbl := lw_at lw_m8 138 rfl
theorem gm_cw_179 : gm_cw 179 ∈ lw_tbl := lw_at lw_m10 62 rfl
theorem gm_cw_180 : gm_cw 180 ∈ lw_tbl := lw_at lw_m5 127 rfl
theorem gm_cw_181 : gm_cw 181 ∈ lw_tbl := lw_at lw_m5 191 rfl
theorem gm_cw_182 : gm_cw 182 ∈ lw_tbl := lw_at lw_m6 239 rfl
theorem gm_cw_183 : gm_cw 183 ∈ lw_tbl := lw_at lw_m10 113 rfl
theorem gm_cw_184 : gm_cw 184 ∈ lw_tbl := lw_at lw_m10 129 rfl
theorem gm_cw_185 : gm_cw 185 ∈ lw_tbl := lw_at lw_m10 109 rfl
theorem gm_cw_186 : gm_cw 186 ∈ lw_tbl := lw_at lw_m10 92 rfl
theorem gm_cw_187 : gm_cw 187 ∈ lw_tbl := lw_at lw_m5 204 rfl
theorem gm_cw_188 : gm_cw 188 ∈ lw_tbl := lw_at lw_m9 132 rfl
theorem gm_cw_189 : gm_cw 189 ∈ lw_tbl := lw_at lw_m12 25 rfl
theorem gm_cw_190 : gm_cw 190 ∈ lw_tbl := lw_at lw_m6 4 rfl
theorem gm_cw_191 : gm_cw 191 ∈ lw_tbl := lw_at lw_m4 220 rfl
theorem gm_cw_192 : gm_cw 192 ∈ lw_tbl := lw_at lw_m9 70 rfl
theorem gm_cwl_161 : ∀ k ∈ List.range' 161 32, gm_cw k ∈ lw_tbl := by
  show ∀ k ∈ [161, 162, 163, 164, 165, 166, 167, 168, 169, 170, 171, 172, 173, 174, 175, 176, 177, 178, 179, 180, 181, 182, 183, 184, 185, 186, 187, 188, 189, 190, 191, 192], gm_cw k ∈ lw_tbl
  exact List.forall_mem_cons.mpr ⟨gm_cw_161, List.forall_mem_cons.mpr ⟨gm_cw_162, List.forall_mem_cons.mpr ⟨gm_cw_163, List.forall_mem_cons.mpr ⟨gm_cw_164, List.forall_mem_cons.mpr ⟨gm_cw_165, List.forall_mem_cons.mpr ⟨gm_cw_166, List.forall_mem_cons.mpr ⟨gm_cw_167, List.forall_mem_cons.mpr ⟨gm_cw_168, List.forall_mem_cons.mpr ⟨gm_cw_169, List.forall_mem_cons.mpr ⟨gm_cw_170, List.forall_mem_cons.mpr ⟨gm_cw_171, List.forall_mem_cons.mpr ⟨gm_cw_172, List.forall_mem_cons.mpr ⟨gm_cw_173, List.forall_mem_cons.mpr ⟨gm_cw_174, List.forall_mem_cons.mpr ⟨gm_cw_175, List.forall_mem_cons.mpr ⟨gm_cw_176, List.forall_mem_cons.mpr ⟨gm_cw_177, List.forall_mem_cons.mpr ⟨gm_cw_178, List.forall_mem_cons.mpr ⟨gm_cw_179, List.forall_mem_cons.mpr ⟨gm_cw_180, List.forall_mem_cons.mpr ⟨gm_cw_181, List.forall_mem_cons.mpr ⟨gm_cw_182, List.forall_mem_cons.mpr ⟨gm_cw_183, List.forall_mem_cons.mpr ⟨gm_cw_184, List.forall_mem_cons.mpr ⟨gm_cw_185, List.forall_mem_cons.mpr ⟨gm_cw_186, List.forall_mem_cons.mpr ⟨gm_cw_187, List.forall_mem_cons.mpr ⟨gm_cw_188, List.forall_mem_cons.mpr ⟨gm_cw_189, List.forall_mem_cons.mpr ⟨gm_cw_190, List.forall_mem_cons.mpr ⟨gm_cw_191, List.forall_mem_cons.mpr ⟨gm_cw_192, fun _ h => absurd h List.not_mem_nil⟩⟩⟩⟩⟩⟩⟩⟩⟩⟩⟩⟩⟩⟩⟩⟩⟩⟩⟩⟩⟩⟩⟩⟩⟩⟩⟩⟩⟩⟩⟩⟩
theorem gm_cw_193 : gm_cw 193 ∈ lw_tbl := lw_at lw_m10 158 rfl
theorem gm_cw_194 : gm_cw 194 ∈ lw_tbl := lw_at lw_m4 217 rfl
theorem gm_cw_195 : gm_cw 195 ∈ lw_tbl := lw_at lw_m9 138 rfl
theorem gm_cw_196 : gm_cw 196 ∈ lw_tbl := lw_at lw_m9 159 rfl
theorem gm_cw_197 : gm_cw 197 ∈ lw_tbl := lw_at lw_m9 167 rfl
theorem gm_cw_198 : gm_cw 198 ∈ lw_tbl := lw_at lw_m12 71 rfl
theorem gm_cw_199 : gm_cw 199 ∈ lw_tbl := lw_at lw_m7 8 rfl
theorem gm_cw_200 : gm_cw 200 ∈ lw_tbl := lw_at lw_m7 44 rfl
theorem gm_cw_201 : gm_cw 201 ∈ lw_tbl := lw_at lw_m8 38 rfl
theorem gm_cw_202 : gm_cw 202 ∈ lw_tbl := lw_at lw_m11 152 rfl
theorem gm_cw_203 : gm_cw 203 ∈ lw_tbl := lw_at lw_m8 187 rfl
theorem gm_cw_204 : gm_cw 204 ∈ lw_tbl := lw_at lw_m10 218 rfl
theorem gm_cw_205 : gm_cw 205 ∈ lw_tbl := lw_at lw_m11 108 rfl
theorem gm_cw_206 : gm_cw 206 ∈ lw_tbl := lw_at lw_m9 80 rfl
theorem gm_cw_207 : gm_cw 207 ∈ lw_tbl := lw_at lw_m8 93 rfl
theorem gm_cw_208 : gm_cw 208 ∈ lw_tbl := lw_at lw_m12 238 rfl
theorem gm_cw_209 : gm_cw 209 ∈ lw_tbl := lw_at lw_m13 30 rfl
theorem gm_cw_210 : gm_cw 210 ∈ lw_tbl := lw_at lw_m12 157 rfl
theorem gm_cw_211 : gm_cw 211 ∈ lw_tbl := lw_at lw_m13 142 rfl
theorem gm_cw_212 : gm_cw 212 ∈ lw_tbl := lw_at lw_m13 10 rfl
theorem gm_cw_213 : gm_cw 213 ∈ lw_tbl := lw_at lw_m13 134 rfl
theorem gm_cw_214 : gm_cw 214 ∈ lw_tbl := lw_at lw_m13 164 rfl
theorem gm_cw_215 : gm_cw 215 ∈ lw_tbl := lw_at lw_m13 199 rfl
theorem gm_cw_216 : gm_cw 216 ∈ lw_tbl := lw_at lw_m11 168 rfl
theorem gm_cw_217 : gm_cw 217 ∈ lw_tbl := lw_at lw_m5 69 rfl
theorem gm_cw_218 : gm_cw 218 ∈ lw_tbl := lw_at lw_m14 105 rfl
theorem gm_cw_219 : gm_cw 219 ∈ lw_tbl := lw_at lw_m12 105 rfl
theorem gm_cw_220 : gm_cw 220 ∈ lw_tbl := lw_at lw_m5 199 rfl
theorem gm_cw_221 : gm_cw 221 ∈ lw_tbl := lw_at lw_m14 120 rfl
theorem gm_cw_222 : gm_cw 222 ∈ lw_tbl := lw_at lw_m4 87 rfl
theorem gm_cw_223 : gm_cw 223 ∈ lw_tbl := lw_at lw_m14 128 rfl
theorem gm_cw_224 : gm_cw 224 ∈ lw_tbl := lw_at lw_m4 107 rfl
theorem gm_cwl_193 : ∀ k ∈ List.range' 193 32, gm_cw k ∈ lw_tbl := by
  show ∀ k ∈ [193, 194, 195, 196, 197, 198, 199, 200, 201, 202, 203, 204, 205, 206, 207, 208, 209, 210, 211, 212, 213, 214, 215, 216, 217, 218, 219, 220, 221, 222, 223, 224], gm_cw k ∈ lw_tbl
  exact List.forall_mem_cons.mpr ⟨gm_cw_193, List.forall_mem_cons.mpr ⟨gm_cw_194, List.forall_mem_cons.mpr ⟨gm_cw_195, List.forall_mem_cons.mpr ⟨gm_cw_196, List.forall_mem_cons.mpr ⟨gm_cw_197, List.forall_mem_cons.mpr ⟨gm_cw_198, List.forall_mem_cons.mpr ⟨gm_cw_199, List.forall_mem_cons.mpr ⟨gm_cw_200, List.forall_mem_cons.mpr ⟨gm_cw_201, List.forall_mem_cons.mpr ⟨gm_cw_202, List.forall_mem_cons.mpr ⟨gm_cw_203, List.forall_mem_cons.mpr ⟨gm_cw_204, List.forall_mem_cons.mpr ⟨gm_cw_205, List.forall_mem_cons.mpr ⟨gm_cw_206, List.forall_mem_cons.mpr ⟨gm_cw_207, List.forall_mem_cons.mpr ⟨gm_cw_208, List.forall_mem_cons.mpr ⟨gm_cw_209, List.forall_mem_cons.mpr ⟨gm_cw_210, List.forall_mem_cons.mpr ⟨gm_cw_211, List.forall_mem_cons.mpr ⟨gm_cw_212, List.forall_mem_cons.mpr ⟨gm_cw_213, List.forall_mem_cons.mpr ⟨gm_cw_214, List.forall_mem_cons.mpr ⟨gm_cw_215, List.forall_mem_cons.mpr ⟨gm_cw_216, List.forall_mem_cons.mpr ⟨gm_cw_217, List.forall_mem_cons.mpr ⟨gm_cw_218, List.forall_mem_cons.mpr ⟨gm_cw_219, List.forall_mem_cons.mpr ⟨gm_cw_220, List.forall_mem_cons.mpr ⟨gm_cw_221, List.forall_mem_cons.mpr ⟨gm_cw_222, List.forall_mem_cons.mpr ⟨gm_cw_223, List.forall_mem_cons.mpr ⟨gm_cw_224, fun _ h => absurd h List.not_mem_nil⟩⟩⟩⟩⟩⟩⟩⟩⟩⟩⟩⟩⟩⟩⟩⟩⟩⟩⟩⟩⟩⟩⟩⟩⟩⟩⟩⟩⟩⟩⟩⟩
theorem gm_cw_225 : gm_cw 225 ∈ lw_tbl := lw_at lw_m4 72 rfl
theorem gm_cw_226 : gm_cw 226 ∈ lw_tbl := lw_at lw_m14 132 rfl
theorem gm_cw_227 : gm_cw 227 ∈ lw_tbl := lw_at lw_m10 161 rfl
theorem gm_cw_228 : gm_cw 228 ∈ lw_tbl := lw_at lw_m4 156 rfl
theorem gm_cw_229 : gm_cw 229 ∈ lw_tbl := lw_at lw_m11 60 rfl
theorem gm_cw_230 : gm_cw 230 ∈ lw_tbl := lw_at lw_m12 32 rfl
theorem gm_cw_231 : gm_cw 231 ∈ lw_tbl := lw_at lw_m10 76 rfl
theorem gm_cw_232 : gm_cw 232 ∈ lw_tbl := lw_at lw_m4 103 rfl
theorem gm_cw_233 : gm_cw 233 ∈ lw_tbl := lw_at lw_m9 215 rfl
theorem gm_cw_234 : gm_cw 234 ∈ lw_tbl := lw_at lw_m14 112 rfl
theorem gm_cw_235 : gm_cw 235 ∈ lw_tbl := lw_at lw_m5 122 rfl
theorem gm_cw_236 : gm_cw 236 ∈ lw_tbl := lw_at lw_m7 3 rfl
theorem gm_cw_237 : gm_cw 237 ∈ lw_tbl := lw_at lw_m5 80 rfl
theorem gm_cw_238 : gm_cw 238 ∈ lw_tbl := lw_at lw_m4 79 rfl
theorem gm_cw_239 : gm_cw 239 ∈ lw_tbl := lw_at lw_m9 26 rfl
theorem gm_cw_240 : gm_cw 240 ∈ lw_tbl := lw_at lw_m4 168 rfl
theorem gm_cw_241 : gm_cw 241 ∈ lw_tbl := lw_at lw_m10 191 rfl
theorem gm_cw_242 : gm_cw 242 ∈ lw_tbl := lw_at lw_m7 173 rfl
theorem gm_cw_243 : gm_cw 243 ∈ lw_tbl := lw_at lw_m4 176 rfl
theorem gm_cw_244 : gm_cw 244 ∈ lw_tbl := lw_at lw_m4 99 rfl
theorem gm_cw_245 : gm_cw 245 ∈ lw_tbl := lw_at lw_m1 116 rfl
theorem gm_cw_246 : gm_cw 246 ∈ lw_tbl := lw_at lw_m7 128 rfl
theorem gm_cw_247 : gm_cw 247 ∈ lw_tbl := lw_at lw_m8 14 rfl
theorem gm_cw_248 : gm_cw 248 ∈ lw_tbl := lw_at lw_m7 91 rfl
theorem gm_cw_249 : gm_cw 249 ∈ lw_tbl := lw_at lw_m5 1 rfl
theorem gm_cw_250 : gm_cw 250 ∈ lw_tbl := lw_at lw_m9 12 rfl
theorem gm_cw_251 : gm_cw 251 ∈ lw_tbl := lw_at lw_m5 66 rfl
theorem gm_cw_252 : gm_cw 252 ∈ lw_tbl := lw_at lw_m8 23 rfl
theorem gm_cw_253 : gm_cw 253 ∈ lw_tbl := lw_at lw_m7 144 rfl
theorem gm_cw_254 : gm_cw 254 ∈ lw_tbl := lw_at lw_m7 150 rfl
theorem gm_cw_255 : gm_cw 255 ∈ lw_tbl := lw_at lw_m8 180 rfl
theorem gm_cw_256 : gm_cw 256 ∈ lw_tbl := lw_at lw_m5 17 rfl
theorem gm_cwl_225 : ∀ k ∈ List.range' 225 32, gm_cw k ∈ lw_tbl := by
  show ∀ k ∈ [225, 226, 227, 228, 229, 230, 231, 232, 233, 234, 235, 236, 237, 238, 239, 240, 241, 242, 243, 244, 245, 246, 247, 248, 249, 250, 251, 252, 253, 254, 255, 256], gm_cw k ∈ lw_tbl
  exact List.forall_mem_cons.mpr ⟨gm_cw_225, List.forall_mem_cons.mpr ⟨gm_cw_226, List.forall_mem_cons.mpr ⟨gm_cw_227, List.forall_mem_cons.mpr ⟨gm_cw_228, List.forall_mem_cons.mpr ⟨gm_cw_229, List.forall_mem_cons.mpr ⟨gm_cw_230, List.forall_mem_cons.mpr ⟨gm_cw_231, List.forall_mem_cons.mpr ⟨gm_cw_232, List.forall_mem_cons.mpr ⟨gm_cw_233, List.forall_mem_cons.mpr ⟨gm_cw_234, List.forall_mem_cons.mpr ⟨gm_cw_235, List.forall_mem_cons.mpr ⟨gm_cw_236, List.forall_mem_cons.mpr ⟨gm_cw_237, List.forall_mem_cons.mpr ⟨gm_cw_238, List.forall_mem_cons.mpr ⟨gm_cw_239, List.forall_mem_cons.mpr ⟨gm_cw_240, List.forall_mem_cons.mpr ⟨gm_cw_241, List.forall_mem_cons.mpr ⟨gm_cw_242, List.forall_mem_cons.mpr ⟨gm_cw_243, List.forall_mem_cons.mpr ⟨gm_cw_244, List.forall_mem_cons.mpr ⟨gm_cw_245, List.forall_mem_cons.mpr ⟨gm_cw_246, List.forall_mem_cons.mpr ⟨gm_cw_247, List.forall_mem_cons.mpr ⟨gm_cw_248, List.forall_mem_cons.mpr ⟨gm_cw_249, List.forall_mem_cons.mpr ⟨gm_cw_250, List.forall_mem_cons.mpr ⟨gm_cw_251, List.forall_mem_cons.mpr ⟨gm_cw_252, List.forall_mem_cons.mpr ⟨gm_cw_253, List.forall_mem_cons.mpr ⟨gm_cw_254, List.forall_mem_cons.mpr ⟨gm_cw_255, List.forall_mem_cons.mpr ⟨gm_cw_256, fun _ h => absurd h List.not_mem_nil⟩⟩⟩⟩⟩⟩⟩⟩⟩⟩⟩⟩⟩⟩⟩⟩⟩⟩⟩⟩⟩⟩⟩⟩⟩⟩⟩⟩⟩⟩⟩⟩
theorem gm_cw_257 : gm_cw 257 ∈ lw_tbl := lw_at lw_m10 211 rfl
theorem gm_cw_258 : gm_cw 258 ∈ lw_tbl := lw_at lw_m8 34 rfl
theorem gm_cw_259 : gm_cw 259 ∈ lw_tbl := lw_at lw_m13 2 rfl
theorem gm_cw_260 : gm_cw 260 ∈ lw_tbl := lw_at lw_m13 150 rfl
theorem gm_cw_261 : gm_cw 261 ∈ lw_tbl := lw_at lw_m11 164 rfl
theorem gm_cw_262 : gm_cw 262 ∈ lw_tbl := lw_at lw_m12 66 rfl
theorem gm_cw_263 : gm_cw 263 ∈ lw_tbl := lw_at lw_m2 140 rfl
theorem gm_cw_264 : gm_cw 264 ∈ lw_tbl := lw_at lw_m10 199 rfl
theorem gm_cw_265 : gm_cw 265 ∈ lw_tbl := lw_at lw_m2 162 rfl
theorem gm_cw_266 : gm_cw 266 ∈ lw_tbl := lw_at lw_m14 77 rfl
theorem gm_cw_267 : gm_cw 267 ∈ lw_tbl := lw_at lw_m14 65 rfl
theorem gm_cw_268 : gm_cw 268 ∈ lw_tbl := lw_at lw_m10 29 rfl
theorem gm_cw_269 : gm_cw 269 ∈ lw_tbl := lw_at lw_m20 22 rfl
theorem gm_cw_270 : gm_cw 270 ∈ lw_tbl := lw_at lw_m19 20 rfl
theorem gm_cw_271 : gm_cw 271 ∈ lw_tbl := lw_at lw_m16 164 rfl
theorem gm_cw_272 : gm_cw 272 ∈ lw_tbl := lw_at lw_m17 151 rfl
theorem gm_cw_273 : gm_cw 273 ∈ lw_tbl := lw_at lw_m16 143 rfl
theorem gm_cw_274 : gm_cw 274 ∈ lw_tbl := lw_at lw_m18 141 rfl
theorem gm_cw_275 : gm_cw 275 ∈ lw_tbl := lw_at lw_m18 93 rfl
theorem gm_cw_276 : gm_cw 276 ∈ lw_tbl := lw_at lw_m17 71 rfl
theorem gm_cw_277 : gm_cw 277 ∈ lw_tbl := lw_at lw_m16 172 rfl
theorem gm_cw_278 : gm_cw 278 ∈ lw_tbl := lw_at lw_m18 48 rfl
theorem gm_cw_279 : gm_cw 279 ∈ lw_tbl := lw_at lw_m18 117 rfl
theorem gm_cw_280 : gm_cw 280 ∈ lw_tbl := lw_at lw_m18 109 rfl
theorem gm_cw_281 : gm_cw 281 ∈ lw_tbl := lw_at lw_m19 233 rfl
theorem gm_cw_282 : gm_cw 282 ∈ lw_tbl := lw_at lw_m17 27 rfl
theorem gm_cw_283 : gm_cw 283 ∈ lw_tbl := lw_at lw_m18 44 rfl
theorem gm_cw_284 : gm_cw 284 ∈ lw_tbl := lw_at lw_m18 152 rfl
theorem gm_cw_285 : gm_cw 285 ∈ lw_tbl := lw_at lw_m16 200 rfl
theorem gm_cw_286 : gm_cw 286 ∈ lw_tbl := lw_at lw_m18 27 rfl
theorem gm_cw_287 : gm_cw 287 ∈ lw_tbl := lw_at lw_m19 92 rfl
theorem gm_cw_288 : gm_cw 288 ∈ lw_tbl := lw_at lw_m18 224 rfl
theorem gm_cwl_257 : ∀ k ∈ List.range' 257 32, gm_cw k ∈ lw_tbl := by
  show ∀ k ∈ [257, 258, 259, 260, 261, 262, 263, 264, 265, 266, 267, 268, 269, 270, 271, 272, 273, 274, 275, 276, 277, 278, 279, 280, 281, 282, 283, 284, 285, 286, 287, 288], gm_cw k ∈ lw_tbl
  exact List.forall_mem_cons.mpr ⟨gm_cw_257, List.forall_mem_cons.mpr ⟨gm_cw_258, List.forall_mem_cons.mpr ⟨gm_cw_259, List.forall_mem_cons.mpr ⟨gm_cw_260, List.forall_mem_cons.mpr ⟨gm_cw_261, List.forall_mem_cons.mpr ⟨gm_cw_262, List.forall_mem_cons.mpr ⟨gm_cw_263, List.forall_mem_cons.mpr ⟨gm_cw_264, List.forall_mem_cons.mpr ⟨gm_cw_265, List.forall_mem_cons.mpr ⟨gm_cw_266, List.forall_mem_cons.mpr ⟨gm_cw_267, List.forall_mem_cons.mpr ⟨gm_cw_268, List.forall_mem_cons.mpr ⟨gm_cw_269, List.forall_mem_cons.mpr ⟨gm_cw_270, List.forall_mem_cons.mpr ⟨gm_cw_271, List.forall_mem_cons.mpr ⟨gm_cw_272, List.forall_mem_cons.mpr ⟨gm_cw_273, List.forall_mem_cons.mpr ⟨gm_cw_274, List.forall_mem_cons.mpr ⟨gm_cw_275, List.forall_mem_cons.mpr ⟨gm_cw_276, List.forall_mem_cons.mpr ⟨gm_cw_277, List.forall_mem_cons.mpr ⟨gm_cw_278, List.forall_mem_cons.mpr ⟨gm_cw_279, List.forall_mem_cons.mpr ⟨gm_cw_280, List.forall_mem_cons.mpr ⟨gm_cw_281, List.forall_mem_cons.mpr ⟨gm_cw_282, List.forall_mem_cons.mpr ⟨gm_cw_283, List.forall_mem_cons.mpr ⟨gm_cw_284, List.forall_mem_cons.mpr ⟨gm_cw_285, List.forall_mem_cons.mpr ⟨gm_cw_286, List.forall_mem_cons.mpr ⟨gm_cw_287, List.forall_mem_cons.mpr ⟨gm_cw_288, fun _ h => absurd h List.not_mem_nil⟩⟩⟩⟩⟩⟩⟩⟩⟩⟩⟩⟩⟩⟩⟩⟩⟩⟩⟩⟩⟩⟩⟩⟩⟩⟩⟩⟩⟩⟩⟩⟩
theorem gm_cw_289 : gm_cw 289 ∈ lw_tbl := lw_at lw_m18 228 rfl
theorem gm_cw_290 : gm_cw 290 ∈ lw_tbl := lw_at lw_m18 220 rfl
theorem gm_cw_291 : gm_cw 291 ∈ lw_tbl := lw_at lw_m19 149 rfl
theorem gm_cw_292 : gm_cw 292 ∈ lw_tbl := lw_at lw_m19 16 rfl
theorem gm_cw_293 : gm_cw 293 ∈ lw_tbl := lw_at lw_m18 85 rfl
theorem gm_cw_294 : gm_cw 294 ∈ lw_tbl := lw_at lw_m18 129 rfl
theorem gm_cw_295 : gm_cw 295 ∈ lw_tbl := lw_at lw_m16 176 rfl
theorem gm_cw_296 : gm_cw 296 ∈ lw_tbl := lw_at lw_m18 34 rfl
theorem gm_cw_297 : gm_cw 297 ∈ lw_tbl := lw_at lw_m17 19 rfl
theorem gm_cw_298 : gm_cw 298 ∈ lw_tbl := lw_at lw_m19 205 rfl
theorem gm_cw_299 : gm_cw 299 ∈ lw_tbl := lw_at lw_m17 187 rfl
theorem gm_cw_300 : gm_cw 300 ∈ lw_tbl := lw_at lw_m17 55 rfl
theorem gm_cw_301 : gm_cw 301 ∈ lw_tbl := lw_at lw_m19 36 rfl
theorem gm_cw_302 : gm_cw 302 ∈ lw_tbl := lw_at lw_m20 39 rfl
theorem gm_cw_303 : gm_cw 303 ∈ lw_tbl := lw_at lw_m17 127 rfl
theorem gm_cw_304 : gm_cw 304 ∈ lw_tbl := lw_at lw_m17 207 rfl
theorem gm_cw_305 : gm_cw 305 ∈ lw_tbl := lw_at lw_m20 35 rfl
theorem gm_cw_306 : gm_cw 306 ∈ lw_tbl := lw_at lw_m16 227 rfl
theorem gm_cw_307 : gm_cw 307 ∈ lw_tbl := lw_at lw_m16 215 rfl
theorem gm_cw_308 : gm_cw 308 ∈ lw_tbl := lw_at lw_m16 231 rfl
theorem gm_cw_309 : gm_cw 309 ∈ lw_tbl := lw_at lw_m18 73 rfl
theorem gm_cw_310 : gm_cw 310 ∈ lw_tbl := lw_at lw_m10 84 rfl
theorem gm_cw_311 : gm_cw 311 ∈ lw_tbl := lw_at lw_m8 134 rfl
theorem gm_cw_312 : gm_cw 312 ∈ lw_tbl := lw_at lw_m10 58 rfl
theorem gm_cw_313 : gm_cw 313 ∈ lw_tbl := lw_at lw_m6 1 rfl
theorem gm_cw_314 : gm_cw 314 ∈ lw_tbl := lw_at lw_m9 57 rfl
theorem gm_cw_315 : gm_cw 315 ∈ lw_tbl := lw_at lw_m6 120 rfl
theorem gm_cw_316 : gm_cw 316 ∈ lw_tbl := lw_at lw_m9 62 rfl
theorem gm_cw_317 : gm_cw 317 ∈ lw_tbl := lw_at lw_m9 163 rfl
theorem gm_cw_318 : gm_cw 318 ∈ lw_tbl := lw_at lw_m10 152 rfl
theorem gm_cw_319 : gm_cw 319 ∈ lw_tbl := lw_at lw_m6 160 rfl
theorem gm_cw_320 : gm_cw 320 ∈ lw_tbl := lw_at lw_m9 67 rfl
theorem gm_cwl_289 : ∀ k ∈ List.range' 289 32, gm_cw k ∈ lw_tbl := by
  show ∀ k ∈ [289, 290, 291, 292, 293, 294, 295, 296, 297, 298, 299, 300, 301, 302, 303, 304, 305, 306, 307, 308, 309, 310, 311, 312, 313, 314, 315, 316, 317, 318, 319, 320], gm_cw k ∈ lw_tbl
  exact List.forall_mem_cons.mpr ⟨gm_cw_289, List.forall_mem_cons.mpr ⟨gm_cw_290, List.forall_mem_cons.mpr ⟨gm_cw_291, List.forall_mem_cons.mpr ⟨gm_cw_292, List.forall_mem_cons.mpr ⟨gm_cw_293, List.forall_mem_cons.mpr ⟨gm_cw_294, List.forall_mem_cons.mpr ⟨gm_cw_295, List.forall_mem_cons.mpr ⟨gm_cw_296, List.forall_mem_cons.mpr ⟨gm_cw_297, List.forall_mem_cons.mpr ⟨gm_cw_298, List.forall_mem_cons.mpr ⟨gm_cw_299, List.forall_mem_cons.mpr ⟨gm_cw_300, List.forall_mem_cons.mpr ⟨gm_cw_301, List.forall_mem_cons.mpr ⟨gm_cw_302, List.forall_mem_cons.mpr ⟨gm_cw_303, List.forall_mem_cons.mpr ⟨gm_cw_304, List.forall_mem_cons.mpr ⟨gm_cw_305, List.forall_mem_cons.mpr ⟨gm_cw_306, List.forall_mem_cons.mpr ⟨gm_cw_307, List.forall_mem_cons.mpr ⟨gm_cw_308, List.forall_mem_cons.mpr ⟨gm_cw_309, List.forall_mem_cons.mpr ⟨gm_cw_310, List.forall_mem_cons.mpr ⟨gm_cw_311, List.forall_mem_cons.mpr ⟨gm_cw_312, List.forall_mem_cons.mpr ⟨gm_cw_313, List.forall_mem_cons.mpr ⟨gm_cw_314, List.forall_mem_cons.mpr ⟨gm_cw_315, List.forall_mem_cons.mpr ⟨gm_cw_316, List.forall_mem_cons.mpr ⟨gm_cw_317, List.forall_mem_cons.mpr ⟨gm_cw_318, List.forall_mem_cons.mpr ⟨gm_cw_319, List.forall_mem_cons.mpr ⟨gm_cw_320, fun _ h => absurd h List.not_mem_nil⟩⟩⟩⟩⟩⟩⟩⟩⟩⟩⟩⟩⟩⟩⟩⟩⟩⟩⟩⟩⟩⟩⟩⟩⟩⟩⟩⟩⟩⟩⟩⟩
theorem gm_cw_321 : gm_cw 321 ∈ lw_tbl := lw_at lw_m10 156 rfl
theorem gm_cw_322 : gm_cw 322 ∈ lw_tbl := lw_at lw_m10 238 rfl
theorem gm_cw_323 : gm_cw 323 ∈ lw_tbl := lw_at lw_m11 105 rfl
theorem gm_cw_324 : gm_cw 324 ∈ lw_tbl := lw_at lw_m11 177 rfl
theorem gm_cw_325 : gm_cw 325 ∈ lw_tbl := lw_at lw_m11 211 rfl
theorem gm_cw_326 : gm_cw 326 ∈ lw_tbl := lw_at lw_m11 234 rfl
theorem gm_cw_327 : gm_cw 327 ∈ lw_tbl := lw_at lw_m12 45 rfl
theorem gm_cw_328 : gm_cw 328 ∈ lw_tbl := lw_at lw_m12 80 rfl
theorem gm_cw_329 : gm_cw 329 ∈ lw_tbl := lw_at lw_m12 129 rfl
theorem gm_cw_330 : gm_cw 330 ∈ lw_tbl := lw_at lw_m8 77 rfl
theorem gm_cw_331 : gm_cw 331 ∈ lw_tbl := lw_at lw_m12 151 rfl
theorem gm_cw_332 : gm_cw 332 ∈ lw_tbl := lw_at lw_m14 85 rfl
theorem gm_cw_333 : gm_cw 333 ∈ lw_tbl := lw_at lw_m14 92 rfl
theorem gm_cw_334 : gm_cw 334 ∈ lw_tbl := lw_at lw_m10 88 rfl
theorem gm_cw_335 : gm_cw 335 ∈ lw_tbl := lw_at lw_m11 56 rfl
theorem gm_cw_336 : gm_cw 336 ∈ lw_tbl := lw_at lw_m4 152 rfl
theorem gm_cw_337 : gm_cw 337 ∈ lw_tbl := lw_at lw_m9 47 rfl
theorem gm_cw_338 : gm_cw 338 ∈ lw_tbl := lw_at lw_m4 160 rfl
theorem gm_cw_339 : gm_cw 339 ∈ lw_tbl := lw_at lw_m11 80 rfl
theorem gm_cw_340 : gm_cw 340 ∈ lw_tbl := lw_at lw_m7 170 rfl
theorem gm_cw_341 : gm_cw 341 ∈ lw_tbl := lw_at lw_m10 207 rfl
theorem gm_cw_342 : gm_cw 342 ∈ lw_tbl := lw_at lw_m4 228 rfl
theorem gm_cw_343 : gm_cw 343 ∈ lw_tbl := lw_at lw_m10 73 rfl
theorem gm_cw_344 : gm_cw 344 ∈ lw_tbl := lw_at lw_m11 37 rfl
theorem gm_cw_345 : gm_cw 345 ∈ lw_tbl := lw_at lw_m5 236 rfl
theorem gm_cw_346 : gm_cw 346 ∈ lw_tbl := lw_at lw_m13 14 rfl
theorem gm_cw_347 : gm_cw 347 ∈ lw_tbl := lw_at lw_m4 164 rfl
theorem gm_cw_348 : gm_cw 348 ∈ lw_tbl := lw_at lw_m9 4 rfl
theorem gm_cw_349 : gm_cw 349 ∈ lw_tbl := lw_at lw_m14 116 rfl
theorem gm_cw_350 : gm_cw 350 ∈ lw_tbl := lw_at lw_m10 195 rfl
theorem gm_cw_351 : gm_cw 351 ∈ lw_tbl := lw_at lw_m6 235 rfl
theorem gm_cw_352 : gm_cw 352 ∈ lw_tbl := lw_at lw_m14 109 rfl
theorem gm_cwl_321 : ∀ k ∈ List.range' 321 32, gm_cw k ∈ lw_tbl := by
  show ∀ k ∈ [321, 322, 323, 324, 325, 326, 327, 328, 329, 330, 331, 332, 333, 334, 335, 336, 337, 338, 339, 340, 341, 342, 343, 344, 345, 346, 347, 348, 349, 350, 351, 352], gm_cw k ∈ lw_tbl
  exact List.forall_mem_cons.mpr ⟨gm_cw_321, List.forall_mem_cons.mpr ⟨gm_cw_322, List.forall_mem_cons.mpr ⟨gm_cw_323, List.forall_mem_cons.mpr ⟨gm_cw_324, List.forall_mem_cons.mpr ⟨gm_cw_325, List.forall_mem_cons.mpr ⟨gm_cw_326, List.forall_mem_cons.mpr ⟨gm_cw_327, List.forall_mem_cons.mpr ⟨gm_cw_328, List.forall_mem_cons.mpr ⟨gm_cw_329, List.forall_mem_cons.mpr ⟨gm_cw_330, List.forall_mem_cons.mpr ⟨gm_cw_331, List.forall_mem_cons.mpr ⟨gm_cw_332, List.forall_mem_cons.mpr ⟨gm_cw_333, List.forall_mem_cons.mpr ⟨gm_cw_334, List.forall_mem_cons.mpr ⟨gm_cw_335, List.forall_mem_cons.mpr ⟨gm_cw_336, List.forall_mem_cons.mpr ⟨gm_cw_337, List.forall_mem_cons.mpr ⟨gm_cw_338, List.forall_mem_cons.mpr ⟨gm_cw_339, List.forall_mem_cons.mpr ⟨gm_cw_340, List.forall_mem_cons.mpr ⟨gm_cw_341, List.forall_mem_cons.mpr ⟨gm_cw_342, List.forall_mem_cons.mpr ⟨gm_cw_343, List.forall_mem_cons.mpr ⟨gm_cw_344, List.forall_mem_cons.mpr ⟨gm_cw_345, List.forall_mem_cons.mpr ⟨gm_cw_346, List.forall_mem_cons.mpr ⟨gm_cw_347, List.forall_mem_cons.mpr ⟨gm_cw_348, List.forall_mem_cons.mpr ⟨gm_cw_349, List.forall_mem_cons.mpr ⟨gm_cw_350, List.forall_mem_cons.mpr ⟨gm_cw_351, List.forall_mem_cons.mpr ⟨gm_cw_352, fun _ h => absurd h List.not_mem_nil⟩⟩⟩⟩⟩⟩⟩⟩⟩⟩⟩⟩⟩⟩⟩⟩⟩⟩⟩⟩⟩⟩⟩⟩⟩⟩⟩⟩⟩⟩⟩⟩
theorem gm_cw_353 : gm_cw 353 ∈ lw_tbl := lw_at lw_m9 34 rfl
theorem gm_cw_354 : gm_cw 354 ∈ lw_tbl := lw_at lw_m5 57 rfl
theorem gm_cw_355 : gm_cw 355 ∈ lw_tbl := lw_at lw_m1 113 rfl
theorem gm_cw_356 : gm_cw 356 ∈ lw_tbl := lw_at lw_m1 194 rfl
theorem gm_cw_357 : gm_cw 357 ∈ lw_tbl := lw_at lw_m7 140 rfl
theorem gm_cw_358 : gm_cw 358 ∈ lw_tbl := lw_at lw_m6 216 rfl
theorem gm_cw_359 : gm_cw 359 ∈ lw_tbl := lw_at lw_m8 104 rfl
theorem gm_cw_360 : gm_cw 360 ∈ lw_tbl := lw_at lw_m8 120 rfl
theorem gm_cw_361 : gm_cw 361 ∈ lw_tbl := lw_at lw_m13 237 rfl
theorem gm_cw_362 : gm_cw 362 ∈ lw_tbl := lw_at lw_m4 190 rfl
theorem gm_cw_363 : gm_cw 363 ∈ lw_tbl := lw_at lw_m17 195 rfl
theorem gm_cw_364 : gm_cw 364 ∈ lw_tbl := lw_at lw_m17 39 rfl
theorem gm_cw_365 : gm_cw 365 ∈ lw_tbl := lw_at lw_m18 101 rfl
theorem gm_cw_366 : gm_cw 366 ∈ lw_tbl := lw_at lw_m17 15 rfl
theorem gm_cw_367 : gm_cw 367 ∈ lw_tbl := lw_at lw_m16 211 rfl
theorem gm_cw_368 : gm_cw 368 ∈ lw_tbl := lw_at lw_m19 84 rfl
theorem gm_cw_369 : gm_cw 369 ∈ lw_tbl := lw_at lw_m20 1 rfl
theorem gm_cw_370 : gm_cw 370 ∈ lw_tbl := lw_at lw_m16 196 rfl
theorem gm_cw_371 : gm_cw 371 ∈ lw_tbl := lw_at lw_m17 67 rfl
theorem gm_cw_372 : gm_cw 372 ∈ lw_tbl := lw_at lw_m17 11 rfl
theorem gm_cw_373 : gm_cw 373 ∈ lw_tbl := lw_at lw_m18 216 rfl
theorem gm_cw_374 : gm_cw 374 ∈ lw_tbl := lw_at lw_m18 69 rfl
theorem gm_cw_375 : gm_cw 375 ∈ lw_tbl := lw_at lw_m18 81 rfl
theorem gm_cw_376 : gm_cw 376 ∈ lw_tbl := lw_at lw_m17 219 rfl
theorem gm_cw_377 : gm_cw 377 ∈ lw_tbl := lw_at lw_m18 160 rfl
theorem gm_cw_378 : gm_cw 378 ∈ lw_tbl := lw_at lw_m19 116 rfl
theorem gm_cw_379 : gm_cw 379 ∈ lw_tbl := lw_at lw_m19 197 rfl
theorem gm_cw_380 : gm_cw 380 ∈ lw_tbl := lw_at lw_m19 213 rfl
theorem gm_cw_381 : gm_cw 381 ∈ lw_tbl := lw_at lw_m19 185 rfl
theorem gm_cw_382 : gm_cw 382 ∈ lw_tbl := lw_at lw_m18 41 rfl
theorem gm_cw_383 : gm_cw 383 ∈ lw_tbl := lw_at lw_m18 133 rfl
theorem gm_cw_384 : gm_cw 384 ∈ lw_tbl := lw_at lw_m17 23 rfl
theorem gm_cwl_353 : ∀ k ∈ List.range' 353 32, gm_cw k ∈ lw_tbl := by
  show ∀ k ∈ [353, 354, 355, 356, 357, 358, 359, 360, 361, 362, 363, 364, 365, 366, 367, 368, 369, 370, 371, 372, 373, 374, 375, 376, 377, 378, 379, 380, 381, 382, 383, 384], gm_cw k ∈ lw_tbl
  exact List.forall_mem_cons.mpr ⟨gm_cw_353, List.forall_mem_cons.mpr ⟨gm_cw_354, List.forall_mem_cons.mpr ⟨gm_cw_355, List.forall_mem_cons.mpr ⟨gm_cw_356, List.forall_mem_cons.mpr ⟨gm_cw_357, List.forall_mem_cons.mpr ⟨gm_cw_358, List.forall_mem_cons.mpr ⟨gm_cw_359, List.forall_mem_cons.mpr ⟨gm_cw_360, List.forall_mem_cons.mpr ⟨gm_cw_361, List.forall_mem_cons.mpr ⟨gm_cw_362, List.forall_mem_cons.mpr ⟨gm_cw_363, List.forall_mem_cons.mpr ⟨gm_cw_364, List.forall_mem_cons.mpr ⟨gm_cw_365, List.forall_mem_cons.mpr ⟨gm_cw_366, List.forall_mem_cons.mpr ⟨gm_cw_367, List.forall_mem_cons.mpr ⟨gm_cw_368, List.forall_mem_cons.mpr ⟨gm_cw_369, List.forall_mem_cons.mpr ⟨gm_cw_370, List.forall_mem_cons.mpr ⟨gm_cw_371, List.forall_mem_cons.mpr ⟨gm_cw_372, List.forall_mem_cons.mpr ⟨gm_cw_373, List.forall_mem_cons.mpr ⟨gm_cw_374, List.forall_mem_cons.mpr ⟨gm_cw_375, List.forall_mem_cons.mpr ⟨gm_cw_376, List.forall_mem_cons.mpr ⟨gm_cw_377, List.forall_mem_cons.mpr ⟨gm_cw_378, List.forall_mem_cons.mpr ⟨gm_cw_379, List.forall_mem_cons.mpr ⟨gm_cw_380, List.forall_mem_cons.mpr ⟨gm_cw_381, List.forall_mem_cons.mpr ⟨gm_cw_382, List.forall_mem_cons.mpr ⟨gm_cw_383, List.forall_mem_cons.mpr ⟨gm_cw_384, fun _ h => absurd h List.not_mem_nil⟩⟩⟩⟩⟩⟩⟩⟩⟩⟩⟩⟩⟩⟩⟩⟩⟩⟩⟩⟩⟩⟩⟩⟩⟩⟩⟩⟩⟩⟩⟩⟩
theorem gm_cw_385 : gm_cw 385 ∈ lw_tbl := lw_at lw_m11 20 rfl
theorem gm_cw_386 : gm_cw 386 ∈ lw_tbl := lw_at lw_m11 6 rfl
theorem gm_cw_387 : gm_cw 387 ∈ lw_tbl := lw_at lw_m12 126 rfl
theorem gm_cw_388 : gm_cw 388 ∈ lw_tbl := lw_at lw_m13 35 rfl
theorem gm_cw_389 : gm_cw 389 ∈ lw_tbl := lw_at lw_m13 69 rfl
theorem gm_cw_390 : gm_cw 390 ∈ lw_tbl := lw_at lw_m13 95 rfl
theorem gm_cw_391 : gm_cw 391 ∈ lw_tbl := lw_at lw_m1 58 rfl
theorem gm_cw_392 : gm_cw 392 ∈ lw_tbl := lw_at lw_m14 81 rfl
theorem gm_cw_393 : gm_cw 393 ∈ lw_tbl := lw_at lw_m11 52 rfl
theorem gm_cw_394 : gm_cw 394 ∈ lw_tbl := lw_at lw_m5 195 rfl
theorem gm_cw_395 : gm_cw 395 ∈ lw_tbl := lw_at lw_m9 51 rfl
theorem gm_cw_396 : gm_cw 396 ∈ lw_tbl := lw_at lw_m9 43 rfl
theorem gm_cw_397 : gm_cw 397 ∈ lw_tbl := lw_at lw_m4 224 rfl
theorem gm_cw_398 : gm_cw 398 ∈ lw_tbl := lw_at lw_m7 135 rfl
theorem gm_cw_399 : gm_cw 399 ∈ lw_tbl := lw_at lw_m8 112 rfl
theorem gm_cw_400 : gm_cw 400 ∈ lw_tbl := lw_at lw_m5 45 rfl
theorem gm_cw_401 : gm_cw 401 ∈ lw_tbl := lw_at lw_m4 185 rfl
theorem gm_cw_402 : gm_cw 402 ∈ lw_tbl := lw_at lw_m19 181 rfl
theorem gm_cw_403 : gm_cw 403 ∈ lw_tbl := lw_at lw_m17 63 rfl
theorem gm_cw_404 : gm_cw 404 ∈ lw_tbl := lw_at lw_m18 125 rfl
theorem gm_cw_405 : gm_cw 405 ∈ lw_tbl := lw_at lw_m17 179 rfl
theorem gm_cw_406 : gm_cw 406 ∈ lw_tbl := lw_at lw_m16 192 rfl
theorem gm_cw_407 : gm_cw 407 ∈ lw_tbl := lw_at lw_m17 123 rfl
theorem gm_cw_408 : gm_cw 408 ∈ lw_tbl := lw_at lw_m18 89 rfl
theorem gm_cw_409 : gm_cw 409 ∈ lw_tbl := lw_at lw_m18 180 rfl
theorem gm_cw_410 : gm_cw 410 ∈ lw_tbl := lw_at lw_m18 23 rfl
theorem gm_cw_411 : gm_cw 411 ∈ lw_tbl := lw_at lw_m19 125 rfl
theorem gm_cw_412 : gm_cw 412 ∈ lw_tbl := lw_at lw_m18 232 rfl
theorem gm_cw_413 : gm_cw 413 ∈ lw_tbl := lw_at lw_m18 65 rfl
theorem gm_cw_414 : gm_cw 414 ∈ lw_tbl := lw_at lw_m6 208 rfl
theorem gm_cw_415 : gm_cw 415 ∈ lw_tbl := lw_at lw_m4 211 rfl
theorem gm_cw_416 : gm_cw 416 ∈ lw_tbl := lw_at lw_m20 31 rfl
theorem gm_cwl_385 : ∀ k ∈ List.range' 385 32, gm_cw k ∈ lw_tbl := by
  show ∀ k ∈ [385, 386, 387, 388, 389, 390, 391, 392, 393, 394, 395, 396, 397, 398, 399, 400, 401, 402, 403, 404, 405, 406, 407, 408, 409, 410, 411, 412, 413, 414, 415, 416], gm_cw k ∈ lw_tbl
  exact List.forall_mem_cons.mpr ⟨gm_cw_385, List.forall_mem_cons.mpr ⟨gm_cw_386, List.forall_mem_cons.mpr ⟨gm_cw_387, List.forall_mem_cons.mpr ⟨gm_cw_388, List.forall_mem_cons.mpr ⟨gm_cw_389, List.forall_mem_cons.mpr ⟨gm_cw_390, List.forall_mem_cons.mpr ⟨gm_cw_391, List.forall_mem_cons.mpr ⟨gm_cw_392, List.forall_mem_cons.mpr ⟨gm_cw_393, List.forall_mem_cons.mpr ⟨gm_cw_394, List.forall_mem_cons.mpr ⟨gm_cw_395, List.forall_mem_cons.mpr ⟨gm_cw_396, List.forall_mem_cons.mpr ⟨gm_cw_397, List.forall_mem_cons.mpr ⟨gm_cw_398, List.forall_mem_cons.mpr ⟨gm_cw_399, List.forall_mem_cons.mpr ⟨gm_cw_400, List.forall_mem_cons.mpr ⟨gm_cw_401, List.forall_mem_cons.mpr ⟨gm_cw_402, List.forall_mem_cons.mpr ⟨gm_cw_403, List.forall_mem_cons.mpr ⟨gm_cw_404, List.forall_mem_cons.mpr ⟨gm_cw_405, List.forall_mem_cons.mpr ⟨gm_cw_406, List.forall_mem_cons.mpr ⟨gm_cw_407, List.forall_mem_cons.mpr ⟨gm_cw_408, List.forall_mem_cons.mpr ⟨gm_cw_409, List.forall_mem_cons.mpr ⟨gm_cw_410, List.forall_mem_cons.mpr ⟨gm_cw_411, List.forall_mem_cons.mpr ⟨gm_cw_412, List.forall_mem_cons.mpr ⟨gm_cw_413, List.forall_mem_cons.mpr ⟨gm_cw_414, List.forall_mem_cons.mpr ⟨gm_cw_415, List.forall_mem_cons.mpr ⟨gm_cw_416, fun _ h => absurd h List.not_mem_nil⟩⟩⟩⟩⟩⟩⟩⟩⟩⟩⟩⟩⟩⟩⟩⟩⟩⟩⟩⟩⟩⟩⟩⟩⟩⟩⟩⟩⟩⟩⟩⟩
theorem gm_cw_417 : gm_cw 417 ∈ lw_tbl := lw_at lw_m20 43 rfl
theorem gm_cw_418 : gm_cw 418 ∈ lw_tbl := lw_at lw_m19 237 rfl
theorem gm_cw_419 : gm_cw 419 ∈ lw_tbl := lw_at lw_m18 61 rfl
theorem gm_cw_420 : gm_cw 420 ∈ lw_tbl := lw_at lw_m17 51 rfl
theorem gm_cw_421 : gm_cw 421 ∈ lw_tbl := lw_at lw_m17 231 rfl
theorem gm_cw_422 : gm_cw 422 ∈ lw_tbl := lw_at lw_m17 119 rfl
theorem gm_cw_423 : gm_cw 423 ∈ lw_tbl := lw_at lw_m18 15 rfl
theorem gm_cw_424 : gm_cw 424 ∈ lw_tbl := lw_at lw_m18 137 rfl
theorem gm_cw_425 : gm_cw 425 ∈ lw_tbl := lw_at lw_m4 43 rfl
theorem gm_cw_426 : gm_cw 426 ∈ lw_tbl := lw_at lw_m9 125 rfl
theorem gm_cw_427 : gm_cw 427 ∈ lw_tbl := lw_at lw_m9 174 rfl
theorem gm_cw_428 : gm_cw 428 ∈ lw_tbl := lw_at lw_m9 152 rfl
theorem gm_cw_429 : gm_cw 429 ∈ lw_tbl := lw_at lw_m9 144 rfl
theorem gm_cw_430 : gm_cw 430 ∈ lw_tbl := lw_at lw_m9 197 rfl
theorem gm_cw_431 : gm_cw 431 ∈ lw_tbl := lw_at lw_m4 1 rfl
theorem gm_cw_432 : gm_cw 432 ∈ lw_tbl := lw_at lw_m4 207 rfl
theorem gm_cw_433 : gm_cw 433 ∈ lw_tbl := lw_at lw_m19 32 rfl
theorem gm_cw_434 : gm_cw 434 ∈ lw_tbl := lw_at lw_m17 203 rfl
theorem gm_cw_435 : gm_cw 435 ∈ lw_tbl := lw_at lw_m17 215 rfl
theorem gm_cw_436 : gm_cw 436 ∈ lw_tbl := lw_at lw_m17 143 rfl
theorem gm_cw_437 : gm_cw 437 ∈ lw_tbl := lw_at lw_m17 35 rfl
theorem gm_cw_438 : gm_cw 438 ∈ lw_tbl := lw_at lw_m17 175 rfl
theorem gm_cw_439 : gm_cw 439 ∈ lw_tbl := lw_at lw_m17 159 rfl
theorem gm_cw_440 : gm_cw 440 ∈ lw_tbl := lw_at lw_m17 99 rfl
theorem gm_cw_441 : gm_cw 441 ∈ lw_tbl := lw_at lw_m18 11 rfl
theorem gm_cw_442 : gm_cw 442 ∈ lw_tbl := lw_at lw_m18 121 rfl
theorem gm_cw_443 : gm_cw 443 ∈ lw_tbl := lw_at lw_m19 129 rfl
theorem gm_cw_444 : gm_cw 444 ∈ lw_tbl := lw_at lw_m11 13 rfl
theorem gm_cw_445 : gm_cw 445 ∈ lw_tbl := lw_at lw_m9 185 rfl
theorem gm_cw_446 : gm_cw 446 ∈ lw_tbl := lw_at lw_m9 30 rfl
theorem gm_cw_447 : gm_cw 447 ∈ lw_tbl := lw_at lw_m12 226 rfl
theorem gm_cw_448 : gm_cw 448 ∈ lw_tbl := lw_at lw_m12 21 rfl
theorem gm_cwl_417 : ∀ k ∈ List.range' 417 32, gm_cw k ∈ lw_tbl := by
  show ∀ k ∈ [417, 418, 419, 420, 421, 422, 423, 424, 425, 426, 427, 428, 429, 430, 431, 432, 433, 434, 435, 436, 437, 438, 439, 440, 441, 442, 443, 444, 445, 446, 447, 448], gm_cw k ∈ lw_tbl
  exact List.forall_mem_cons.mpr ⟨gm_cw_417, List.forall_mem_cons.mpr ⟨gm_cw_418, List.forall_mem_cons.mpr ⟨gm_cw_419, List.forall_mem_cons.mpr ⟨gm_cw_420, List.forall_mem_cons.mpr ⟨gm_cw_421, List.forall_mem_cons.mpr ⟨gm_cw_422, List.forall_mem_cons.mpr ⟨gm_cw_423, List.forall_mem_cons.mpr ⟨gm_cw_424, List.forall_mem_cons.mpr ⟨gm_cw_425, List.forall_mem_cons.mpr ⟨gm_cw_426, List.forall_mem_cons.mpr ⟨gm_cw_427, List.forall_mem_cons.mpr ⟨gm_cw_428, List.forall_mem_cons.mpr ⟨gm_cw_429, List.forall_mem_cons.mpr ⟨gm_cw_430, List.forall_mem_cons.mpr ⟨gm_cw_431, List.forall_mem_cons.mpr ⟨gm_cw_432, List.forall_mem_cons.mpr ⟨gm_cw_433, List.forall_mem_cons.mpr ⟨gm_cw_434, List.forall_mem_cons.mpr ⟨gm_cw_435, List.forall_mem_cons.mpr ⟨gm_cw_436, List.forall_mem_cons.mpr ⟨gm_cw_437, List.forall_mem_cons.mpr ⟨gm_cw_438, List.forall_mem_cons.mpr ⟨gm_cw_439, List.forall_mem_cons.mpr ⟨gm_cw_440, List.forall_mem_cons.mpr ⟨gm_cw_441, List.forall_mem_cons.mpr ⟨gm_cw_442, List.forall_mem_cons.mpr ⟨gm_cw_443, List.forall_mem_cons.mpr ⟨gm_cw_444, List.forall_mem_cons.mpr ⟨gm_cw_445, List.forall_mem_cons.mpr ⟨gm_cw_446, List.forall_mem_cons.mpr ⟨gm_cw_447, List.forall_mem_cons.mpr ⟨gm_cw_448, fun _ h => absurd h List.not_mem_nil⟩⟩⟩⟩⟩⟩⟩⟩⟩⟩⟩⟩⟩⟩⟩⟩⟩⟩⟩⟩⟩⟩⟩⟩⟩⟩⟩⟩⟩⟩⟩⟩
theorem gm_cw_449 : gm_cw 449 ∈ lw_tbl := lw_at lw_m10 133 rfl
theorem gm_cw_450 : gm_cw 450 ∈ lw_tbl := lw_at lw_m4 203 rfl
theorem gm_cw_451 : gm_cw 451 ∈ lw_tbl := lw_at lw_m5 37 rfl
theorem gm_cw_452 : gm_cw 452 ∈ lw_tbl := lw_at lw_m7 67 rfl
theorem gm_cw_453 : gm_cw 453 ∈ lw_tbl := lw_at lw_m9 229 rfl
theorem gm_cw_454 : gm_cw 454 ∈ lw_tbl := lw_at lw_m10 100 rfl
theorem gm_cw_455 : gm_cw 455 ∈ lw_tbl := lw_at lw_m10 54 rfl
theorem gm_cw_456 : gm_cw 456 ∈ lw_tbl := lw_at lw_m7 64 rfl
theorem gm_cw_457 : gm_cw 457 ∈ lw_tbl := lw_at lw_m9 221 rfl
theorem gm_cw_458 : gm_cw 458 ∈ lw_tbl := lw_at lw_m13 26 rfl
theorem gm_cw_459 : gm_cw 459 ∈ lw_tbl := lw_at lw_m3 238 rfl
theorem gm_cw_460 : gm_cw 460 ∈ lw_tbl := lw_at lw_m14 8 rfl
theorem gm_cw_461 : gm_cw 461 ∈ lw_tbl := lw_at lw_m14 2 rfl
theorem gm_cw_462 : gm_cw 462 ∈ lw_tbl := lw_at lw_m14 27 rfl
theorem gm_cw_463 : gm_cw 463 ∈ lw_tbl := lw_at lw_m19 173 rfl
theorem gm_cw_464 : gm_cw 464 ∈ lw_tbl := lw_at lw_m19 68 rfl
theorem gm_cw_465 : gm_cw 465 ∈ lw_tbl := lw_at lw_m19 96 rfl
theorem gm_cw_466 : gm_cw 466 ∈ lw_tbl := lw_at lw_m18 208 rfl
theorem gm_cw_467 : gm_cw 467 ∈ lw_tbl := lw_at lw_m19 153 rfl
theorem gm_cw_468 : gm_cw 468 ∈ lw_tbl := lw_at lw_m17 95 rfl
theorem gm_cw_469 : gm_cw 469 ∈ lw_tbl := lw_at lw_m19 161 rfl
theorem gm_cw_470 : gm_cw 470 ∈ lw_tbl := lw_at lw_m19 4 rfl
theorem gm_cw_471 : gm_cw 471 ∈ lw_tbl := lw_at lw_m19 177 rfl
theorem gm_cw_472 : gm_cw 472 ∈ lw_tbl := lw_at lw_m19 120 rfl
theorem gm_cw_473 : gm_cw 473 ∈ lw_tbl := lw_at lw_m17 239 rfl
theorem gm_cw_474 : gm_cw 474 ∈ lw_tbl := lw_at lw_m19 225 rfl
theorem gm_cw_475 : gm_cw 475 ∈ lw_tbl := lw_at lw_m19 88 rfl
theorem gm_cw_476 : gm_cw 476 ∈ lw_tbl := lw_at lw_m19 165 rfl
theorem gm_cw_477 : gm_cw 477 ∈ lw_tbl := lw_at lw_m19 40 rfl
theorem gm_cw_478 : gm_cw 478 ∈ lw_tbl := lw_at lw_m19 112 rfl
theorem gm_cw_479 : gm_cw 479 ∈ lw_tbl := lw_at lw_m19 137 rfl
theorem gm_cw_480 : gm_cw 480 ∈ lw_tbl := lw_at lw_m19 48 rfl
theorem gm_cwl_449 : ∀ k ∈ List.range' 449 32, gm_cw k ∈ lw_tbl := by
  show ∀ k ∈ [449, 450, 451, 452, 453, 454, 455, 456, 457, 458, 459, 460, 461, 462, 463, 464, 465, 466, 467, 468, 469, 470, 471, 472, 473, 474, 475, 476, 477, 478, 479, 480], gm_cw k ∈ lw_tbl
  exact List.forall_mem_cons.mpr ⟨gm_cw_449, List.forall_mem_cons.mpr ⟨gm_cw_450, List.forall_mem_cons.mpr ⟨gm_cw_451, List.forall_mem_cons.mpr ⟨gm_cw_452, List.forall_mem_cons.mpr ⟨gm_cw_453, List.forall_mem_cons.mpr ⟨gm_cw_454, List.forall_mem_cons.mpr ⟨gm_cw_455, List.forall_mem_cons.mpr ⟨gm_cw_456, List.forall_mem_cons.mpr ⟨gm_cw_457, List.forall_mem_cons.mpr ⟨gm_cw_458, List.forall_mem_cons.mpr ⟨gm_cw_459, List.forall_mem_cons.mpr ⟨gm_cw_460, List.forall_mem_cons.mpr ⟨gm_cw_461, List.forall_mem_cons.mpr ⟨gm_cw_462, List.forall_mem_cons.mpr ⟨gm_cw_463, List.forall_mem_cons.mpr ⟨gm_cw_464, List.forall_mem_cons.mpr ⟨gm_cw_465, List.forall_mem_cons.mpr ⟨gm_cw_466, List.forall_mem_cons.mpr ⟨gm_cw_467, List.forall_mem_cons.mpr ⟨gm_cw_468, List.forall_mem_cons.mpr ⟨gm_cw_469, List.forall_mem_cons.mpr ⟨gm_cw_470, List.forall_mem_cons.mpr ⟨gm_cw_471, List.forall_mem_cons.mpr ⟨gm_cw_472, List.forall_mem_cons.mpr ⟨gm_cw_473, List.forall_mem_cons.mpr ⟨gm_cw_474, List.forall_mem_cons.mpr ⟨gm_cw_475, List.forall_mem_cons.mpr ⟨gm_cw_476, List.forall_mem_cons.mpr ⟨gm_cw_477, List.forall_mem_cons.mpr ⟨gm_cw_478, List.forall_mem_cons.mpr ⟨gm_cw_479, List.forall_mem_cons.mpr ⟨gm_cw_480, fun _ h => absurd h List.not_mem_nil⟩⟩⟩⟩⟩⟩⟩⟩⟩⟩⟩⟩⟩⟩⟩⟩⟩⟩⟩⟩⟩⟩⟩⟩⟩⟩⟩⟩⟩⟩⟩⟩
theorem gm_cw_481 : gm_cw 481 ∈ lw_tbl := lw_at lw_m18 176 rfl
theorem gm_cw_482 : gm_cw 482 ∈ lw_tbl := lw_at lw_m18 212 rfl
theorem gm_cw_483 : gm_cw 483 ∈ lw_tbl := lw_at lw_m19 44 rfl
theorem gm_cw_484 : gm_cw 484 ∈ lw_tbl := lw_at lw_m11 2 rfl
theorem gm_cw_485 : gm_cw 485 ∈ lw_tbl := lw_at lw_m9 225 rfl
theorem gm_cw_486 : gm_cw 486 ∈ lw_tbl := lw_at lw_m7 60 rfl
theorem gm_cw_487 : gm_cw 487 ∈ lw_tbl := lw_at lw_m12 29 rfl
theorem gm_cw_488 : gm_cw 488 ∈ lw_tbl := lw_at lw_m11 87 rfl
theorem gm_cw_489 : gm_cw 489 ∈ lw_tbl := lw_at lw_m7 87 rfl
theorem gm_cw_490 : gm_cw 490 ∈ lw_tbl := lw_at lw_m10 145 rfl
theorem gm_cw_491 : gm_cw 491 ∈ lw_tbl := lw_at lw_m10 2 rfl
theorem gm_cw_492 : gm_cw 492 ∈ lw_tbl := lw_at lw_m11 44 rfl
theorem gm_cw_493 : gm_cw 493 ∈ lw_tbl := lw_at lw_m12 222 rfl
theorem gm_cw_494 : gm_cw 494 ∈ lw_tbl := lw_at lw_m12 98 rfl
theorem gm_cw_495 : gm_cw 495 ∈ lw_tbl := lw_at lw_m10 41 rfl
theorem gm_cw_496 : gm_cw 496 ∈ lw_tbl := lw_at lw_m4 199 rfl
theorem gm_cw_497 : gm_cw 497 ∈ lw_tbl := lw_at lw_m7 105 rfl
theorem gm_cw_498 : gm_cw 498 ∈ lw_tbl := lw_at lw_m9 212 rfl
theorem gm_cw_499 : gm_cw 499 ∈ lw_tbl := lw_at lw_m13 191 rfl
theorem gm_cw_500 : gm_cw 500 ∈ lw_tbl := lw_at lw_m11 69 rfl
theorem gm_cw_501 : gm_cw 501 ∈ lw_tbl := lw_at lw_m10 66 rfl
theorem gm_cw_502 : gm_cw 502 ∈ lw_tbl := lw_at lw_m10 50 rfl
theorem gm_cw_503 : gm_cw 503 ∈ lw_tbl := lw_at lw_m8 168 rfl
theorem gm_cw_504 : gm_cw 504 ∈ lw_tbl := lw_at lw_m8 174 rfl
theorem gm_cw_505 : gm_cw 505 ∈ lw_tbl := lw_at lw_m8 162 rfl
theorem gm_cw_506 : gm_cw 506 ∈ lw_tbl := lw_at lw_m10 176 rfl
theorem gm_cw_507 : gm_cw 507 ∈ lw_tbl := lw_at lw_m3 234 rfl
theorem gm_cw_508 : gm_cw 508 ∈ lw_tbl := lw_at lw_m13 229 rfl
theorem gm_cw_509 : gm_cw 509 ∈ lw_tbl := lw_at lw_m17 199 rfl
theorem gm_cw_510 : gm_cw 510 ∈ lw_tbl := lw_at lw_m17 227 rfl
theorem gm_cw_511 : gm_cw 511 ∈ lw_tbl := lw_at lw_m18 192 rfl
theorem gm_cw_512 : gm_cw 512 ∈ lw_tbl := lw_at lw_m19 64 rfl
theorem gm_cwl_481 : ∀ k ∈ List.range' 481 32, gm_cw k ∈ lw_tbl := by
  show ∀ k ∈ [481, 482, 483, 484, 485, 486, 487, 488, 489, 490, 491, 492, 493, 494, 495, 496, 497, 498, 499, 500, 501, 502, 503, 504, 505, 506, 507, 508, 509, 510, 511, 512], gm_cw k ∈ lw_tbl
  exact List.forall_mem_cons.mpr ⟨gm_cw_481, List.forall_mem_cons.mpr ⟨gm_cw_482, List.forall_mem_cons.mpr ⟨gm_cw_483, List.forall_mem_cons.mpr ⟨gm_cw_484, List.forall_mem_cons.mpr ⟨gm_cw_485, List.forall_mem_cons.mpr ⟨gm_cw_486, List.forall_mem_cons.mpr ⟨gm_cw_487, List.forall_mem_cons.mpr ⟨gm_cw_488, List.forall_mem_cons.mpr ⟨gm_cw_489, List.forall_mem_cons.mpr ⟨gm_cw_490, List.forall_mem_cons.mpr ⟨gm_cw_491, List.forall_mem_cons.mpr ⟨gm_cw_492, List.forall_mem_cons.mpr ⟨gm_cw_493, List.forall_mem_cons.mpr ⟨gm_cw_494, List.forall_mem_cons.mpr ⟨gm_cw_495, List.forall_mem_cons.mpr ⟨gm_cw_496, List.forall_mem_cons.mpr ⟨gm_cw_497, List.forall_mem_cons.mpr ⟨gm_cw_498, List.forall_mem_cons.mpr ⟨gm_cw_499, List.forall_mem_cons.mpr ⟨gm_cw_500, List.forall_mem_cons.mpr ⟨gm_cw_501, List.forall_mem_cons.mpr ⟨gm_cw_502, List.forall_mem_cons.mpr ⟨gm_cw_503, List.forall_mem_cons.mpr ⟨gm_cw_504, List.forall_mem_cons.mpr ⟨gm_cw_505, List.forall_mem_cons.mpr ⟨gm_cw_506, List.forall_mem_cons.mpr ⟨gm_cw_507, List.forall_mem_cons.mpr ⟨gm_cw_508, List.forall_mem_cons.mpr ⟨gm_cw_509, List.forall_mem_cons.mpr ⟨gm_cw_510, List.forall_mem_cons.mpr ⟨gm_cw_511, List.forall_mem_cons.mpr ⟨gm_cw_512, fun _ h => absurd h List.not_mem_nil⟩⟩⟩⟩⟩⟩⟩⟩⟩⟩⟩⟩⟩⟩⟩⟩⟩⟩⟩⟩⟩⟩⟩⟩⟩⟩⟩⟩⟩⟩⟩⟩
theorem gm_cw_513 : gm_cw 513 ∈ lw_tbl := lw_at lw_m18 172 rfl
theorem gm_cw_514 : gm_cw 514 ∈ lw_tbl := lw_at lw_m17 211 rfl
theorem gm_cw_515 : gm_cw 515 ∈ lw_tbl := lw_at lw_m17 139 rfl
theorem gm_cw_516 : gm_cw 516 ∈ lw_tbl := lw_at lw_m17 3 rfl
theorem gm_cw_517 : gm_cw 517 ∈ lw_tbl := lw_at lw_m19 209 rfl
theorem gm_cw_518 : gm_cw 518 ∈ lw_tbl := lw_at lw_m17 167 rfl
theorem gm_cw_519 : gm_cw 519 ∈ lw_tbl := lw_at lw_m18 200 rfl
theorem gm_cw_520 : gm_cw 520 ∈ lw_tbl := lw_at lw_m18 164 rfl
theorem gm_cw_521 : gm_cw 521 ∈ lw_tbl := lw_at lw_m17 147 rfl
theorem gm_cw_522 : gm_cw 522 ∈ lw_tbl := lw_at lw_m12 219 rfl
theorem gm_cw_523 : gm_cw 523 ∈ lw_tbl := lw_at lw_m4 195 rfl
theorem gm_cw_524 : gm_cw 524 ∈ lw_tbl := lw_at lw_m6 204 rfl
theorem gm_cw_525 : gm_cw 525 ∈ lw_tbl := lw_at lw_m13 146 rfl
theorem gm_cw_526 : gm_cw 526 ∈ lw_tbl := lw_at lw_m13 155 rfl
theorem gm_cw_527 : gm_cw 527 ∈ lw_tbl := lw_at lw_m12 18 rfl
theorem gm_cw_528 : gm_cw 528 ∈ lw_tbl := lw_at lw_m13 129 rfl
theorem gm_cw_529 : gm_cw 529 ∈ lw_tbl := lw_at lw_m13 138 rfl
theorem gm_cw_530 : gm_cw 530 ∈ lw_tbl := lw_at lw_m13 55 rfl
theorem gm_cw_531 : gm_cw 531 ∈ lw_tbl := lw_at lw_m13 195 rfl
theorem gm_cw_532 : gm_cw 532 ∈ lw_tbl := lw_at lw_m13 187 rfl
theorem gm_cw_533 : gm_cw 533 ∈ lw_tbl := lw_at lw_m11 48 rfl
theorem gm_cw_534 : gm_cw 534 ∈ lw_tbl := lw_at lw_m8 154 rfl
theorem gm_cw_535 : gm_cw 535 ∈ lw_tbl := lw_at lw_m3 230 rfl
theorem gm_cw_536 : gm_cw 536 ∈ lw_tbl := lw_at lw_m13 233 rfl
theorem gm_cw_537 : gm_cw 537 ∈ lw_tbl := lw_at lw_m13 224 rfl
theorem gm_cw_538 : gm_cw 538 ∈ lw_tbl := lw_at lw_m19 60 rfl
theorem gm_cw_539 : gm_cw 539 ∈ lw_tbl := lw_at lw_m20 6 rfl
theorem gm_cw_540 : gm_cw 540 ∈ lw_tbl := lw_at lw_m18 184 rfl
theorem gm_cw_541 : gm_cw 541 ∈ lw_tbl := lw_at lw_m18 188 rfl
theorem gm_cw_542 : gm_cw 542 ∈ lw_tbl := lw_at lw_m17 223 rfl
theorem gm_cw_543 : gm_cw 543 ∈ lw_tbl := lw_at lw_m18 148 rfl
theorem gm_cw_544 : gm_cw 544 ∈ lw_tbl := lw_at lw_m19 193 rfl
theorem gm_cwl_513 : ∀ k ∈ List.range' 513 32, gm_cw k ∈ lw_tbl := by
  show ∀ k ∈ [513, 514, 515, 516, 517, 518, 519, 520, 521, 522, 523, 524, 525, 526, 527, 528, 529, 530, 531, 532, 533, 534, 535, 536, 537, 538, 539, 540, 541, 542, 543, 544], gm_cw k ∈ lw_tbl
  exact List.forall_mem_cons.mpr ⟨gm_cw_513, List.forall_mem_cons.mpr ⟨gm_cw_514, List.forall_mem_cons.mpr ⟨gm_cw_515, List.forall_mem_cons.mpr ⟨gm_cw_516, List.forall_mem_cons.mpr ⟨gm_cw_517, List.forall_mem_cons.mpr ⟨gm_cw_518, List.forall_mem_cons.mpr ⟨gm_cw_519, List.forall_mem_cons.mpr ⟨gm_cw_520, List.forall_mem_cons.mpr ⟨gm_cw_521, List.forall_mem_cons.mpr ⟨gm_cw_522, List.forall_mem_cons.mpr ⟨gm_cw_523, List.forall_mem_cons.mpr ⟨gm_cw_524, List.forall_mem_cons.mpr ⟨gm_cw_525, List.forall_mem_cons.mpr ⟨gm_cw_526, List.forall_mem_cons.mpr ⟨gm_cw_527, List.forall_mem_cons.mpr ⟨gm_cw_528, List.forall_mem_cons.mpr ⟨gm_cw_529, List.forall_mem_cons.mpr ⟨gm_cw_530, List.forall_mem_cons.mpr ⟨gm_cw_531, List.forall_mem_cons.mpr ⟨gm_cw_532, List.forall_mem_cons.mpr ⟨gm_cw_533, List.forall_mem_cons.mpr ⟨gm_cw_534, List.forall_mem_cons.mpr ⟨gm_cw_535, List.forall_mem_cons.mpr ⟨gm_cw_536, List.forall_mem_cons.mpr ⟨gm_cw_537, List.forall_mem_cons.mpr ⟨gm_cw_538, List.forall_mem_cons.mpr ⟨gm_cw_539, List.forall_mem_cons.mpr ⟨gm_cw_540, List.forall_mem_cons.mpr ⟨gm_cw_541, List.forall_mem_cons.mpr ⟨gm_cw_542, List.forall_mem_cons.mpr ⟨gm_cw_543, List.forall_mem_cons.mpr ⟨gm_cw_544, fun _ h => absurd h List.not_mem_nil⟩⟩⟩⟩⟩⟩⟩⟩⟩⟩⟩⟩⟩⟩⟩⟩⟩⟩⟩⟩⟩⟩⟩⟩⟩⟩⟩⟩⟩⟩⟩⟩
theorem gm_cw_545 : gm_cw 545 ∈ lw_tbl := lw_at lw_m20 18 rfl
theorem gm_cw_546 : gm_cw 546 ∈ lw_tbl := lw_at lw_m18 168 rfl
theorem gm_cw_547 : gm_cw 547 ∈ lw_tbl := lw_at lw_m3 226 rfl
theorem gm_cw_548 : gm_cw 548 ∈ lw_tbl := lw_at lw_m11 34 rfl
theorem gm_cw_549 : gm_cw 549 ∈ lw_tbl := lw_at lw_m8 142 rfl
theorem gm_cw_550 : gm_cw 550 ∈ lw_tbl := lw_at lw_m10 181 rfl
theorem gm_cw_551 : gm_cw 551 ∈ lw_tbl := lw_at lw_m11 95 rfl
theorem gm_cw_552 : gm_cw 552 ∈ lw_tbl := lw_at lw_m13 159 rfl
theorem gm_cw_553 : gm_cw 553 ∈ lw_tbl := lw_at lw_m6 200 rfl
theorem gm_cw_554 : gm_cw 554 ∈ lw_tbl := lw_at lw_m14 49 rfl
theorem gm_cw_555 : gm_cw 555 ∈ lw_tbl := lw_at lw_m19 56 rfl
theorem gm_cw_556 : gm_cw 556 ∈ lw_tbl := lw_at lw_m20 10 rfl
theorem gm_cw_557 : gm_cw 557 ∈ lw_tbl := lw_at lw_m8 130 rfl
theorem gm_cw_558 : gm_cw 558 ∈ lw_tbl := lw_at lw_m7 229 rfl
theorem gm_cw_559 : gm_cw 559 ∈ lw_tbl := lw_at lw_m6 192 rfl
theorem gm_cw_560 : gm_cw 560 ∈ lw_tbl := lw_at lw_m19 52 rfl
theorem gm_cw_561 : gm_cw 561 ∈ lw_tbl := lw_at lw_m6 188 rfl
theorem gm_cw_562 : gm_cw 562 ∈ lw_tbl := lw_at lw_m7 221 rfl
theorem gm_cw_563 : gm_cw 563 ∈ lw_tbl := lw_at lw_m11 26 rfl
theorem gm_cw_564 : gm_cw 564 ∈ lw_tbl := lw_at lw_m8 126 rfl
theorem gm_cw_565 : gm_cw 565 ∈ lw_tbl := lw_at lw_m9 238 rfl
theorem gm_cw_566 : gm_cw 566 ∈ lw_tbl := lw_at lw_m4 172 rfl
theorem gm_cw_567 : gm_cw 567 ∈ lw_tbl := lw_at lw_m11 156 rfl
theorem gm_cw_568 : gm_cw 568 ∈ lw_tbl := lw_at lw_m8 3 rfl
theorem gm_cw_569 : gm_cw 569 ∈ lw_tbl := lw_at lw_m7 239 rfl
theorem gm_cw_570 : gm_cw 570 ∈ lw_tbl := lw_at lw_m7 215 rfl
theorem gm_cw_571 : gm_cw 571 ∈ lw_tbl := lw_at lw_m7 232 rfl
theorem gm_cw_572 : gm_cw 572 ∈ lw_tbl := lw_at lw_m10 233 rfl
theorem gm_cw_573 : gm_cw 573 ∈ lw_tbl := lw_at lw_m10 137 rfl
theorem gm_cw_574 : gm_cw 574 ∈ lw_tbl := lw_at lw_m9 39 rfl
theorem gm_cw_575 : gm_cw 575 ∈ lw_tbl := lw_at lw_m9 208 rfl
theorem gm_cw_576 : gm_cw 576 ∈ lw_tbl := lw_at lw_m10 13 rfl
theorem gm_cwl_545 : ∀ k ∈ List.range' 545 32, gm_cw k ∈ lw_tbl := by
  show ∀ k ∈ [545, 546, 547, 548, 549, 550, 551, 552, 553, 554, 555, 556, 557, 558, 559, 560, 561, 562, 563, 564, 565, 566, 567, 568, 569, 570, 571, 572, 573, 574, 575, 576], gm_cw k ∈ lw_tbl
  exact List.forall_mem_cons.mpr ⟨gm_cw_545, List.forall_mem_cons.mpr ⟨gm_cw_546, List.forall_mem_cons.mpr ⟨gm_cw_547, List.forall_mem_cons.mpr ⟨gm_cw_548, List.forall_mem_cons.mpr ⟨gm_cw_549, List.forall_mem_cons.mpr ⟨gm_cw_550, List.forall_mem_cons.mpr ⟨gm_cw_551, List.forall_mem_cons.mpr ⟨gm_cw_552, List.forall_mem_cons.mpr ⟨gm_cw_553, List.forall_mem_cons.mpr ⟨gm_cw_554, List.forall_mem_cons.mpr ⟨gm_cw_555, List.forall_mem_cons.mpr ⟨gm_cw_556, List.forall_mem_cons.mpr ⟨gm_cw_557, List.forall_mem_cons.mpr ⟨gm_cw_558, List.forall_mem_cons.mpr ⟨gm_cw_559, List.forall_mem_cons.mpr ⟨gm_cw_560, List.forall_mem_cons.mpr ⟨gm_cw_561, List.forall_mem_cons.mpr ⟨gm_cw_562, List.forall_mem_cons.mpr ⟨gm_cw_563, List.forall_mem_cons.mpr ⟨gm_cw_564, List.forall_mem_cons.mpr ⟨gm_cw_565, List.forall_mem_cons.mpr ⟨gm_cw_566, List.forall_mem_cons.mpr ⟨gm_cw_567, List.forall_mem_cons.mpr ⟨gm_cw_568, List.forall_mem_cons.mpr ⟨gm_cw_569, List.forall_mem_cons.mpr ⟨gm_cw_570, List.forall_mem_cons.mpr ⟨gm_cw_571, List.forall_mem_cons.mpr ⟨gm_cw_572, List.forall_mem_cons.mpr ⟨gm_cw_573, List.forall_mem_cons.mpr ⟨gm_cw_574, List.forall_mem_cons.mpr ⟨gm_cw_575, List.forall_mem_cons.mpr ⟨gm_cw_576, fun _ h => absurd h List.not_mem_nil⟩⟩⟩⟩⟩⟩⟩⟩⟩⟩⟩⟩⟩⟩⟩⟩⟩⟩⟩⟩⟩⟩⟩⟩⟩⟩⟩⟩⟩⟩⟩⟩
theorem gm_cw_577 : gm_cw 577 ∈ lw_tbl := lw_at lw_m10 96 rfl
theorem gm_cw_578 : gm_cw 578 ∈ lw_tbl := lw_at lw_m10 121 rfl
theorem gm_cw_579 : gm_cw 579 ∈ lw_tbl := lw_at lw_m7 209 rfl
theorem gm_cw_580 : gm_cw 580 ∈ lw_tbl := lw_at lw_m13 125 rfl
theorem gm_cw_581 : gm_cw 581 ∈ lw_tbl := lw_at lw_m10 141 rfl
theorem gm_cw_582 : gm_cw 582 ∈ lw_tbl := lw_at lw_m10 45 rfl
theorem gm_cw_583 : gm_cw 583 ∈ lw_tbl := lw_at lw_m10 9 rfl
theorem gm_cw_584 : gm_cw 584 ∈ lw_tbl := lw_at lw_m10 125 rfl
theorem gm_cw_585 : gm_cw 585 ∈ lw_tbl := lw_at lw_m10 37 rfl
theorem gm_cw_586 : gm_cw 586 ∈ lw_tbl := lw_at lw_m10 80 rfl
theorem gm_cw_587 : gm_cw 587 ∈ lw_tbl := lw_at lw_m7 113 rfl
theorem gm_cw_588 : gm_cw 588 ∈ lw_tbl := lw_at lw_m10 204 rfl
theorem gm_cw_589 : gm_cw 589 ∈ lw_tbl := lw_at lw_m13 121 rfl
theorem gm_cw_590 : gm_cw 590 ∈ lw_tbl := lw_at lw_m14 55 rfl
theorem gm_cw_591 : gm_cw 591 ∈ lw_tbl := lw_at lw_m9 22 rfl
theorem gm_cw_592 : gm_cw 592 ∈ lw_tbl := lw_at lw_m8 99 rfl
theorem gm_cw_593 : gm_cw 593 ∈ lw_tbl := lw_at lw_m7 109 rfl
theorem gm_cw_594 : gm_cw 594 ∈ lw_tbl := lw_at lw_m9 83 rfl
theorem gm_cw_595 : gm_cw 595 ∈ lw_tbl := lw_at lw_m13 18 rfl
theorem gm_cw_596 : gm_cw 596 ∈ lw_tbl := lw_at lw_m10 169 rfl
theorem gm_cw_597 : gm_cw 597 ∈ lw_tbl := lw_at lw_m9 97 rfl
theorem gm_cw_598 : gm_cw 598 ∈ lw_tbl := lw_at lw_m9 111 rfl
theorem gm_cw_599 : gm_cw 599 ∈ lw_tbl := lw_at lw_m8 87 rfl
theorem gm_cw_600 : gm_cw 600 ∈ lw_tbl := lw_at lw_m12 234 rfl
theorem gm_cw_601 : gm_cw 601 ∈ lw_tbl := lw_at lw_m10 165 rfl
theorem gm_cw_602 : gm_cw 602 ∈ lw_tbl := lw_at lw_m14 15 rfl
theorem gm_cw_603 : gm_cw 603 ∈ lw_tbl := lw_at lw_m8 68 rfl
theorem gm_cw_604 : gm_cw 604 ∈ lw_tbl := lw_at lw_m8 62 rfl
theorem gm_cw_605 : gm_cw 605 ∈ lw_tbl := lw_at lw_m11 148 rfl
theorem gm_cw_606 : gm_cw 606 ∈ lw_tbl := lw_at lw_m12 36 rfl
theorem gm_cw_607 : gm_cw 607 ∈ lw_tbl := lw_at lw_m13 59 rfl
theorem gm_cw_608 : gm_cw 608 ∈ lw_tbl := lw_at lw_m12 75 rfl
theorem gm_cwl_577 : ∀ k ∈ List.range' 577 32, gm_cw k ∈ lw_tbl := by
  show ∀ k ∈ [577, 578, 579, 580, 581, 582, 583, 584, 585, 586, 587, 588, 589, 590, 591, 592, 593, 594, 595, 596, 597, 598, 599, 600, 601, 602, 603, 604, 605, 606, 607, 608], gm_cw k ∈ lw_tbl
  exact List.forall_mem_cons.mpr ⟨gm_cw_577, List.forall_mem_cons.mpr ⟨gm_cw_578, List.forall_mem_cons.mpr ⟨gm_cw_579, List.forall_mem_cons.mpr ⟨gm_cw_580, List.forall_mem_cons.mpr ⟨gm_cw_581, List.forall_mem_cons.mpr ⟨gm_cw_582, List.forall_mem_cons.mpr ⟨gm_cw_583, List.forall_mem_cons.mpr ⟨gm_cw_584, List.forall_mem_cons.mpr ⟨gm_cw_585, List.forall_mem_cons.mpr ⟨gm_cw_586, List.forall_mem_cons.mpr ⟨gm_cw_587, List.forall_mem_cons.mpr ⟨gm_cw_588, List.forall_mem_cons.mpr ⟨gm_cw_589, List.forall_mem_cons.mpr ⟨gm_cw_590, List.forall_mem_cons.mpr ⟨gm_cw_591, List.forall_mem_cons.mpr ⟨gm_cw_592, List.forall_mem_cons.mpr ⟨gm_cw_593, List.forall_mem_cons.mpr ⟨gm_cw_594, List.forall_mem_cons.mpr ⟨gm_cw_595, List.forall_mem_cons.mpr ⟨gm_cw_596, List.forall_mem_cons.mpr ⟨gm_cw_597, List.forall_mem_cons.mpr ⟨gm_cw_598, List.forall_mem_cons.mpr ⟨gm_cw_599, List.forall_mem_cons.mpr ⟨gm_cw_600, List.forall_mem_cons.mpr ⟨gm_cw_601, List.forall_mem_cons.mpr ⟨gm_cw_602, List.forall_mem_cons.mpr ⟨gm_cw_603, List.forall_mem_cons.mpr ⟨gm_cw_604, List.forall_mem_cons.mpr ⟨gm_cw_605, List.forall_mem_cons.mpr ⟨gm_cw_606, List.forall_mem_cons.mpr ⟨gm_cw_607, List.forall_mem_cons.mpr ⟨gm_cw_608, fun _ h => absurd h List.not_mem_nil⟩⟩⟩⟩⟩⟩⟩⟩⟩⟩⟩⟩⟩⟩⟩⟩⟩⟩⟩⟩⟩⟩⟩⟩⟩⟩⟩⟩⟩⟩⟩⟩
theorem gm_cw_609 : gm_cw 609 ∈ lw_tbl := lw_at lw_m13 64 rfl
theorem gm_cw_610 : gm_cw 610 ∈ lw_tbl := lw_at lw_m11 172 rfl
theorem gm_cw_611 : gm_cw 611 ∈ lw_tbl := lw_at lw_m11 99 rfl
theorem gm_cw_612 : gm_cw 612 ∈ lw_tbl := lw_at lw_m11 229 rfl
theorem gm_cw_613 : gm_cw 613 ∈ lw_tbl := lw_at lw_m14 73 rfl
theorem gm_cw_614 : gm_cw 614 ∈ lw_tbl := lw_at lw_m13 89 rfl
theorem gm_cw_615 : gm_cw 615 ∈ lw_tbl := lw_at lw_m8 30 rfl
theorem gm_cw_616 : gm_cw 616 ∈ lw_tbl := lw_at lw_m11 202 rfl
theorem gm_cw_617 : gm_cw 617 ∈ lw_tbl := lw_at lw_m13 22 rfl
theorem gm_cw_618 : gm_cw 618 ∈ lw_tbl := lw_at lw_m14 36 rfl
theorem gm_cw_619 : gm_cw 619 ∈ lw_tbl := lw_at lw_m14 23 rfl
theorem gm_cw_620 : gm_cw 620 ∈ lw_tbl := lw_at lw_m14 69 rfl
theorem gm_cw_621 : gm_cw 621 ∈ lw_tbl := lw_at lw_m11 91 rfl
theorem gm_cw_622 : gm_cw 622 ∈ lw_tbl := lw_at lw_m12 113 rfl
theorem gm_cw_623 : gm_cw 623 ∈ lw_tbl := lw_at lw_m11 198 rfl
theorem gm_cw_624 : gm_cw 624 ∈ lw_tbl := lw_at lw_m8 8 rfl
theorem gm_cw_625 : gm_cw 625 ∈ lw_tbl := lw_at lw_m14 44 rfl
theorem gm_cw_626 : gm_cw 626 ∈ lw_tbl := lw_at lw_m14 61 rfl
theorem gm_cw_627 : gm_cw 627 ∈ lw_tbl := lw_at lw_m11 73 rfl
theorem gm_cw_628 : gm_cw 628 ∈ lw_tbl := lw_at lw_m12 102 rfl
theorem gm_cw_629 : gm_cw 629 ∈ lw_tbl := lw_at lw_m13 220 rfl
theorem gm_cw_630 : gm_cw 630 ∈ lw_tbl := lw_at lw_m13 207 rfl
theorem gm_cw_631 : gm_cw 631 ∈ lw_tbl := lw_at lw_m13 203 rfl
theorem gm_cwl_609 : ∀ k ∈ List.range' 609 23, gm_cw k ∈ lw_tbl := by
  show ∀ k ∈ [609, 610, 611, 612, 613, 614, 615, 616, 617, 618, 619, 620, 621, 622, 623, 624, 625, 626, 627, 628, 629, 630, 631], gm_cw k ∈ lw_tbl
  exact List.forall_mem_cons.mpr ⟨gm_cw_609, List.forall_mem_cons.mpr ⟨gm_cw_610, List.forall_mem_cons.mpr ⟨gm_cw_611, List.forall_mem_cons.mpr ⟨gm_cw_612, List.forall_mem_cons.mpr ⟨gm_cw_613, List.forall_mem_cons.mpr ⟨gm_cw_614, List.forall_mem_cons.mpr ⟨gm_cw_615, List.forall_mem_cons.mpr ⟨gm_cw_616, List.forall_mem_cons.mpr ⟨gm_cw_617, List.forall_mem_cons.mpr ⟨gm_cw_618, List.forall_mem_cons.mpr ⟨gm_cw_619, List.forall_mem_cons.mpr ⟨gm_cw_620, List.forall_mem_cons.mpr ⟨gm_cw_621, List.forall_mem_cons.mpr ⟨gm_cw_622, List.forall_mem_cons.mpr ⟨gm_cw_623, List.forall_mem_cons.mpr ⟨gm_cw_624, List.forall_mem_cons.mpr ⟨gm_cw_625, List.forall_mem_cons.mpr ⟨gm_cw_626, List.forall_mem_cons.mpr ⟨gm_cw_627, List.forall_mem_cons.mpr ⟨gm_cw_628, List.forall_mem_cons.mpr ⟨gm_cw_629, List.forall_mem_cons.mpr ⟨gm_cw_630, List.forall_mem_cons.mpr ⟨gm_cw_631, fun _ h => absurd h List.not_mem_nil⟩⟩⟩⟩⟩⟩⟩⟩⟩⟩⟩⟩⟩⟩⟩⟩⟩⟩⟩⟩⟩⟩⟩
theorem gm_cw_all {k : Nat} (h1 : 1 ≤ k) (h2 : k < 632) : gm_cw k ∈ lw_tbl := by
  by_cases c0 : k < 33
  · exact gm_cwl_1 k (List.mem_range'_1.mpr ⟨by omega, by omega⟩)
  by_cases c1 : k < 65
  · exact gm_cwl_33 k (List.mem_range'_1.mpr ⟨by omega, by omega⟩)
  by_cases c2 : k < 97
  · exact gm_cwl_65 k (List.mem_range'_1.mpr ⟨by omega, by omega⟩)
  by_cases c3 : k < 129
  · exact gm_cwl_97 k (List.mem_range'_1.mpr ⟨by omega, by omega⟩)
  by_cases c4 : k < 161
  · exact gm_cwl_129 k (List.mem_range'_1.mpr ⟨by omega, by omega⟩)
  by_cases c5 : k < 193
  · exact gm_cwl_161 k (List.mem_range'_1.mpr ⟨by omega, by omega⟩)
  by_cases c6 : k < 225
  · exact gm_cwl_193 k (List.mem_range'_1.mpr ⟨by omega, by omega⟩)
  by_cases c7 : k < 257
  · exact gm_cwl_225 k (List.mem_range'_1.mpr ⟨by omega, by omega⟩)
  by_cases c8 : k < 289
  · exact gm_cwl_257 k (List.mem_range'_1.mpr ⟨by omega, by omega⟩)
  by_cases c9 : k < 321
  · exact gm_cwl_289 k (List.mem_range'_1.mpr ⟨by omega, by omega⟩)
  by_cases c10 : k < 353
  · exact gm_cwl_321 k (List.mem_range'_1.mpr ⟨by omega, by omega⟩)
  by_cases c11 : k < 385
  · exact gm_cwl_353 k (List.mem_range'_1.mpr ⟨by omega, by omega⟩)
  by_cases c12 : k < 417
  · exact gm_cwl_385 k (List.mem_range'_1.mpr ⟨by omega, by omega⟩)
  by_cases c13 : k < 449
  · exact gm_cwl_417 k (List.mem_range'_1.mpr ⟨by omega, by omega⟩)
  by_cases c14 : k < 481
  · exact gm_cwl_449 k (List.mem_range'_1.mpr ⟨by omega, by omega⟩)
  by_cases c15 : k < 513
  · exact gm_cwl_481 k (List.mem_range'_1.mpr ⟨by omega, by omega⟩)
  by_cases c16 : k < 545
  · exact gm_cwl_513 k (List.mem_range'_1.mpr ⟨by omega, by omega⟩)
  by_cases c17 : k < 577
  · exact gm_cwl_545 k (List.mem_range'_1.mpr ⟨by omega, by omega⟩)
  by_cases c18 : k < 609
  · exact gm_cwl_577 k (List.mem_range'_1.mpr ⟨by omega, by omega⟩)
  exact gm_cwl_609 k (List.mem_range'_1.mpr ⟨by omega, by omega⟩)
theorem gm_mok_1 : ∀ k ∈ List.range' 1 53, gm_mok k = true := fun k h => List.all_eq_true.mp (show ((List.range' 1 53).all gm_mok) = true by decide +kernel) k h
theorem gm_mok_54 : ∀ k ∈ List.range' 54 53, gm_mok k = true := fun k h => List.all_eq_true.mp (show ((List.range' 54 53).all gm_mok) = true by decide +kernel) k h
theorem gm_mok_107 : ∀ k ∈ List.range' 107 53, gm_mok k = true := fun k h => List.all_eq_true.mp (show ((List.range' 107 53).all gm_mok) = true by decide +kernel) k h
theorem gm_mok_160 : ∀ k ∈ List.range' 160 53, gm_mok k = true := fun k h => List.all_eq_true.mp (show ((List.range' 160 53).all gm_mok) = true by decide +kernel) k h
theorem gm_mok_213 : ∀ k ∈ List.range' 213 53, gm_mok k = true := fun k h => List.all_eq_true.mp (show ((List.range' 213 53).all gm_mok) = true by decide +kernel) k h
theorem gm_mok_266 : ∀ k ∈ List.range' 266 53, gm_mok k = true := fun k h => List.all_eq_true.mp (show ((List.range' 266 53).all gm_mok) = true by decide +kernel) k h
theorem gm_mok_319 : ∀ k ∈ List.range' 319 53, gm_mok k = true := fun k h => List.all_eq_true.mp (show ((List.range' 319 53).all gm_mok) = true by decide +kernel) k h
theorem gm_mok_372 : ∀ k ∈ List.range' 372 53, gm_mok k = true := fun k h => List.all_eq_true.mp (show ((List.range' 372 53).all gm_mok) = true by decide +kernel) k h
theorem gm_mok_425 : ∀ k ∈ List.range' 425 53, gm_mok k = true := fun k h => List.all_eq_true.mp (show ((List.range' 425 53).all gm_mok) = true by decide +kernel) k h
theorem gm_mok_478 : ∀ k ∈ List.range' 478 53, gm_mok k = true := fun k h => List.all_eq_true.mp (show ((List.range' 478 53).all gm_mok) = true by decide +kernel) k h
theorem gm_mok_531 : ∀ k ∈ List.range' 531 53, gm_mok k = true := fun k h => List.all_eq_true.mp (show ((List.range' 531 53).all gm_mok) = true by decide +kernel) k h
theorem gm_mok_584 : ∀ k ∈ List.range' 584 48, gm_mok k = true := fun k h => List.all_eq_true.mp (show ((List.range' 584 48).all gm_mok) = true by decide +kernel) k h
theorem gm_mok_all {k : Nat} (h1 : 1 ≤ k) (h2 : k < 632) : gm_mok k = true := by
  by_cases c0 : k < 54
  · exact gm_mok_1 k (List.mem_range'_1.mpr ⟨by omega, by omega⟩)
  by_cases c1 : k < 107
  · exact gm_mok_54 k (List.mem_range'_1.mpr ⟨by omega, by omega⟩)
  by_cases c2 : k < 160
  · exact gm_mok_107 k (List.mem_range'_1.mpr ⟨by omega, by omega⟩)
  by_cases c3 : k < 213
  · exact gm_mok_160 k (List.mem_range'_1.mpr ⟨by omega, by omega⟩)
  by_cases c4 : k < 266
  · exact gm_mok_213 k (List.mem_range'_1.mpr ⟨by omega, by omega⟩)
  by_cases c5 : k < 319
  · exact gm_mok_266 k (List.mem_range'_1.mpr ⟨by omega, by omega⟩)
  by_cases c6 : k < 372
  · exact gm_mok_319 k (List.mem_range'_1.mpr ⟨by omega, by omega⟩)
  by_cases c7 : k < 425
  · exact gm_mok_372 k (List.mem_range'_1.mpr ⟨by omega, by omega⟩)
  by_cases c8 : k < 478
  · exact gm_mok_425 k (List.mem_range'_1.mpr ⟨by omega, by omega⟩)
  by_cases c9 : k < 531
  · exact gm_mok_478 k (List.mem_range'_1.mpr ⟨by omega, by omega⟩)
  by_cases c10 : k < 584
  · exact gm_mok_531 k (List.mem_range'_1.mpr ⟨by omega, by omega⟩)
  exact gm_mok_584 k (List.mem_range'_1.mpr ⟨by omega, by omega⟩)
