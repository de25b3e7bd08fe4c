/-! SIMULATION, 32: the code is right -/
def sm_b17 : List am_A := (m_17_0.headD (false, [])).2
theorem sm_p17_0 : sm_cbp sm_po17 true (sm_lo m_17_0) none [] [0] prog_20_method_1_code ((sm_b17.drop 0).take 50) 0 = some 104 := by decide +kernel
theorem sm_p17_50 : sm_cbp sm_po17 true (sm_lo m_17_0) none [] [0] prog_20_method_1_code ((sm_b17.drop 50).take 50) 104 = some 213 := by decide +kernel
theorem sm_p17_100 : sm_cbp sm_po17 true (sm_lo m_17_0) none [] [0] prog_20_method_1_code ((sm_b17.drop 100).take 50) 213 = some 324 := by decide +kernel
theorem sm_p17_150 : sm_cbp sm_po17 true (sm_lo m_17_0) none [] [0] prog_20_method_1_code ((sm_b17.drop 150).take 50) 324 = some 425 := by decide +kernel
theorem sm_p17_200 : sm_cbp sm_po17 true (sm_lo m_17_0) none [] [0] prog_20_method_1_code ((sm_b17.drop 200).take 50) 425 = some 532 := by decide +kernel
theorem sm_p17_250 : sm_cbp sm_po17 true (sm_lo m_17_0) none [] [0] prog_20_method_1_code ((sm_b17.drop 250).take 50) 532 = some 637 := by decide +kernel
theorem sm_p17_300 : sm_cbp sm_po17 true (sm_lo m_17_0) none [] [0] prog_20_method_1_code ((sm_b17.drop 300).take 50) 637 = some 747 := by decide +kernel
theorem sm_p17_350 : sm_cbp sm_po17 true (sm_lo m_17_0) none [] [0] prog_20_method_1_code ((sm_b17.drop 350).take 50) 747 = some 858 := by decide +kernel
theorem sm_p17_400 : sm_cbp sm_po17 true (sm_lo m_17_0) none [] [0] prog_20_method_1_code ((sm_b17.drop 400).take 50) 858 = some 969 := by decide +kernel
theorem sm_q17_450 : sm_cb sm_po17 true (sm_lo m_17_0) none [] [0] prog_20_method_1_code (sm_b17.drop 450) 969 0 = true := by decide +kernel
theorem sm_q17_400 : sm_cb sm_po17 true (sm_lo m_17_0) none [] [0] prog_20_method_1_code (sm_b17.drop 400) 858 0 = true := sm_cbp_drop sm_p17_400 sm_q17_450
theorem sm_q17_350 : sm_cb sm_po17 true (sm_lo m_17_0) none [] [0] prog_20_method_1_code (sm_b17.drop 350) 747 0 = true := sm_cbp_drop sm_p17_350 sm_q17_400
theorem sm_q17_300 : sm_cb sm_po17 true (sm_lo m_17_0) none [] [0] prog_20_method_1_code (sm_b17.drop 300) 637 0 = true := sm_cbp_drop sm_p17_300 sm_q17_350
theorem sm_q17_250 : sm_cb sm_po17 true (sm_lo m_17_0) none [] [0] prog_20_method_1_code (sm_b17.drop 250) 532 0 = true := sm_cbp_drop sm_p17_250 sm_q17_300
theorem sm_q17_200 : sm_cb sm_po17 true (sm_lo m_17_0) none [] [0] prog_20_method_1_code (sm_b17.drop 200) 425 0 = true := sm_cbp_drop sm_p17_200 sm_q17_250
theorem sm_q17_150 : sm_cb sm_po17 true (sm_lo m_17_0) none [] [0] prog_20_method_1_code (sm_b17.drop 150) 324 0 = true := sm_cbp_drop sm_p17_150 sm_q17_200
theorem sm_q17_100 : sm_cb sm_po17 true (sm_lo m_17_0) none [] [0] prog_20_method_1_code (sm_b17.drop 100) 213 0 = true := sm_cbp_drop sm_p17_100 sm_q17_150
theorem sm_q17_50 : sm_cb sm_po17 true (sm_lo m_17_0) none [] [0] prog_20_method_1_code (sm_b17.drop 50) 104 0 = true := sm_cbp_drop sm_p17_50 sm_q17_100
theorem sm_q17_0 : sm_cb sm_po17 true (sm_lo m_17_0) none [] [0] prog_20_method_1_code (sm_b17.drop 0) 0 0 = true := sm_cbp_drop sm_p17_0 sm_q17_50
theorem sm_cm17_0 : sm_cm sm_po17 (1, m_17_0) sm_x17_0 = true := by
  have e : m_17_0 = [(false, sm_b17)] := rfl
  have h : sm_cbs sm_po17 true (sm_lo m_17_0) none [] [0] prog_20_method_1_code m_17_0 [0] = true := by
    conv => lhs; arg 8; rw [e]
    unfold sm_cbs
    rw [show sm_cb sm_po17 true (sm_lo m_17_0) none [] [0] prog_20_method_1_code sm_b17 0 0 = true from sm_q17_0]
    rfl
  unfold sm_cm
  rw [Bool.and_eq_true, Bool.and_eq_true]
  exact ⟨⟨rfl, rfl⟩, h⟩
theorem sm_cm17_1 : sm_cm sm_po17 (3, m_17_1) sm_x17_1 = true := by decide +kernel
theorem sm_cm17_2 : sm_cm sm_po17 (6, m_17_2) sm_x17_2 = true := by decide +kernel
theorem sm_cm17_3 : sm_cm sm_po17 (3, m_17_3) sm_x17_3 = true := by decide +kernel
theorem sm_cm17_4 : sm_cm sm_po17 (2, m_17_4) sm_x17_4 = true := by decide +kernel
theorem sm_cm17_5 : sm_cm sm_po17 (1, m_17_5) sm_x17_5 = true := by decide +kernel
theorem sm_cm17_6 : sm_cm sm_po17 (1, m_17_6) sm_x17_6 = true := by decide +kernel
theorem sm_cm17_7 : sm_cm sm_po17 (1, m_17_7) sm_x17_7 = true := by decide +kernel
theorem sm_cm17_8 : sm_cm sm_po17 (5, m_17_8) sm_x17_8 = true := by decide +kernel
theorem sm_cm17_9 : sm_cm sm_po17 (5, m_17_9) sm_x17_9 = true := by decide +kernel
theorem sm_cm17_10 : sm_cm sm_po17 (7, m_17_10) sm_x17_10 = true := by decide +kernel
theorem sm_cm17_11 : sm_cm sm_po17 (6, m_17_11) sm_x17_11 = true := by decide +kernel
theorem sm_cm17_12 : sm_cm sm_po17 (6, m_17_12) sm_x17_12 = true := by decide +kernel
theorem sm_cm17_13 : sm_cm sm_po17 (6, m_17_13) sm_x17_13 = true := by decide +kernel
theorem sm_cm17_14 : sm_cm sm_po17 (4, m_17_14) sm_x17_14 = true := by decide +kernel
theorem sm_cm17_15 : sm_cm sm_po17 (3, m_17_15) sm_x17_15 = true := by decide +kernel
theorem sm_cm17_16 : sm_cm sm_po17 (5, m_17_16) sm_x17_16 = true := by decide +kernel
theorem sm_cm17_17 : sm_cm sm_po17 (3, m_17_17) sm_x17_17 = true := by decide +kernel
theorem sm_cm17_18 : sm_cm sm_po17 (1, m_17_18) sm_x17_18 = true := by decide +kernel
theorem sm_cm17_19 : sm_cm sm_po17 (2, m_17_19) sm_x17_19 = true := by decide +kernel
theorem sm_cm17_20 : sm_cm sm_po17 (2, m_17_20) sm_x17_20 = true := by decide +kernel
theorem sm_cm17_21 : sm_cm sm_po17 (1, m_17_21) sm_x17_21 = true := by decide +kernel
theorem sm_cm17_22 : sm_cm sm_po17 (2, m_17_22) sm_x17_22 = true := by decide +kernel
theorem sm_cm17_23 : sm_cm sm_po17 (2, m_17_23) sm_x17_23 = true := by decide +kernel
theorem sm_cm17_24 : sm_cm sm_po17 (1, m_17_24) sm_x17_24 = true := by decide +kernel
theorem sm_cm17_25 : sm_cm sm_po17 (5, m_17_25) sm_x17_25 = true := by decide +kernel
theorem sm_cm17_26 : sm_cm sm_po17 (1, m_17_26) sm_x17_26 = true := by decide +kernel
theorem sm_cm17_27 : sm_cm sm_po17 (2, m_17_27) sm_x17_27 = true := by decide +kernel
theorem sm_cm17_28 : sm_cm sm_po17 (2, m_17_28) sm_x17_28 = true := by decide +kernel
theorem sm_cm17_29 : sm_cm sm_po17 (4, m_17_29) sm_x17_29 = true := by decide +kernel
theorem sm_cm17_30 : sm_cm sm_po17 (7, m_17_30) sm_x17_30 = true := by decide +kernel
theorem sm_cm17_31 : sm_cm sm_po17 (2, m_17_31) sm_x17_31 = true := by decide +kernel
theorem sm_cm17_32 : sm_cm sm_po17 (7, m_17_32) sm_x17_32 = true := by decide +kernel
theorem sm_cm17_33 : sm_cm sm_po17 (4, m_17_33) sm_x17_33 = true := by decide +kernel
theorem sm_cm17_34 : sm_cm sm_po17 (3, m_17_34) sm_x17_34 = true := by decide +kernel
theorem sm_cm17_35 : sm_cm sm_po17 (5, m_17_35) sm_x17_35 = true := by decide +kernel
theorem sm_cm17_36 : sm_cm sm_po17 (2, m_17_36) sm_x17_36 = true := by decide +kernel
theorem sm_cm17_37 : sm_cm sm_po17 (4, m_17_37) sm_x17_37 = true := by decide +kernel
theorem sm_cm17_38 : sm_cm sm_po17 (4, m_17_38) sm_x17_38 = true := by decide +kernel
theorem sm_cm17_39 : sm_cm sm_po17 (3, m_17_39) sm_x17_39 = true := by decide +kernel
theorem sm_cm17_40 : sm_cm sm_po17 (6, m_17_40) sm_x17_40 = true := by decide +kernel
theorem sm_cm17_41 : sm_cm sm_po17 (2, m_17_41) sm_x17_41 = true := by decide +kernel
theorem sm_cm17_42 : sm_cm sm_po17 (2, m_17_42) sm_x17_42 = true := by decide +kernel
theorem sm_cm17_43 : sm_cm sm_po17 (3, m_17_43) sm_x17_43 = true := by decide +kernel
theorem sm_cm17_44 : sm_cm sm_po17 (1, m_17_44) sm_x17_44 = true := by decide +kernel
theorem sm_cm17_45 : sm_cm sm_po17 (1, m_17_45) sm_x17_45 = true := by decide +kernel
theorem sm_cm17_46 : sm_cm sm_po17 (1, m_17_46) sm_x17_46 = true := by decide +kernel
theorem sm_cm17_47 : sm_cm sm_po17 (2, m_17_47) sm_x17_47 = true := by decide +kernel
theorem sm_cm17_48 : sm_cm sm_po17 (2, m_17_48) sm_x17_48 = true := by decide +kernel
theorem sm_cm17_49 : sm_cm sm_po17 (2, m_17_49) sm_x17_49 = true := by decide +kernel
theorem sm_cm17_50 : sm_cm sm_po17 (1, m_17_50) sm_x17_50 = true := by decide +kernel
theorem sm_cm17_51 : sm_cm sm_po17 (1, m_17_51) sm_x17_51 = true := by decide +kernel
theorem sm_cm17_52 : sm_cm sm_po17 (4, m_17_52) sm_x17_52 = true := by decide +kernel
theorem sm_cm17_53 : sm_cm sm_po17 (4, m_17_53) sm_x17_53 = true := by decide +kernel
theorem sm_cm17_54 : sm_cm sm_po17 (3, m_17_54) sm_x17_54 = true := by decide +kernel
theorem sm_cm17_55 : sm_cm sm_po17 (4, m_17_55) sm_x17_55 = true := by decide +kernel
theorem sm_cm17_56 : sm_cm sm_po17 (4, m_17_56) sm_x17_56 = true := by decide +kernel
theorem sm_cm17_57 : sm_cm sm_po17 (7, m_17_57) sm_x17_57 = true := by decide +kernel
theorem sm_cm17_58 : sm_cm sm_po17 (3, m_17_58) sm_x17_58 = true := by decide +kernel
theorem sm_cm17_59 : sm_cm sm_po17 (2, m_17_59) sm_x17_59 = true := by decide +kernel
theorem sm_cm17_60 : sm_cm sm_po17 (5, m_17_60) sm_x17_60 = true := by decide +kernel
theorem sm_cm17_61 : sm_cm sm_po17 (4, m_17_61) sm_x17_61 = true := by decide +kernel
theorem sm_cm17_62 : sm_cm sm_po17 (4, m_17_62) sm_x17_62 = true := by decide +kernel
theorem sm_cm17_63 : sm_cm sm_po17 (3, m_17_63) sm_x17_63 = true := by decide +kernel
theorem sm_cm17_64 : sm_cm sm_po17 (3, m_17_64) sm_x17_64 = true := by decide +kernel
theorem sm_cm17_65 : sm_cm sm_po17 (6, m_17_65) sm_x17_65 = true := by decide +kernel
theorem sm_cm17_66 : sm_cm sm_po17 (3, m_17_66) sm_x17_66 = true := by decide +kernel
theorem sm_cm17_67 : sm_cm sm_po17 (7, m_17_67) sm_x17_67 = true := by decide +kernel
theorem sm_cm17_68 : sm_cm sm_po17 (3, m_17_68) sm_x17_68 = true := by decide +kernel
theorem sm_cm17_69 : sm_cm sm_po17 (4, m_17_69) sm_x17_69 = true := by decide +kernel
theorem sm_cm17_70 : sm_cm sm_po17 (5, m_17_70) sm_x17_70 = true := by decide +kernel
theorem sm_cm17_71 : sm_cm sm_po17 (3, m_17_71) sm_x17_71 = true := by decide +kernel
theorem sm_cm17_72 : sm_cm sm_po17 (2, m_17_72) sm_x17_72 = true := by decide +kernel
theorem sm_cm17_73 : sm_cm sm_po17 (4, m_17_73) sm_x17_73 = true := by decide +kernel
theorem sm_cm17_74 : sm_cm sm_po17 (4, m_17_74) sm_x17_74 = true := by decide +kernel
theorem sm_cm17_75 : sm_cm sm_po17 (3, m_17_75) sm_x17_75 = true := by decide +kernel
theorem sm_cm17_76 : sm_cm sm_po17 (1, m_17_76) sm_x17_76 = true := by decide +kernel
theorem sm_cm17_77 : sm_cm sm_po17 (2, m_17_77) sm_x17_77 = true := by decide +kernel
theorem sm_cm17_78 : sm_cm sm_po17 (1, m_17_78) sm_x17_78 = true := by decide +kernel
theorem sm_cm17_79 : sm_cm sm_po17 (3, m_17_79) sm_x17_79 = true := by decide +kernel
theorem sm_cm17_80 : sm_cm sm_po17 (4, m_17_80) sm_x17_80 = true := by decide +kernel
theorem sm_cm17_81 : sm_cm sm_po17 (2, m_17_81) sm_x17_81 = true := by decide +kernel
theorem sm_cm17_82 : sm_cm sm_po17 (1, m_17_82) sm_x17_82 = true := by decide +kernel
theorem sm_cm17_83 : sm_cm sm_po17 (5, m_17_83) sm_x17_83 = true := by decide +kernel
theorem sm_cm17_84 : sm_cm sm_po17 (3, m_17_84) sm_x17_84 = true := by decide +kernel
theorem sm_cm17_85 : sm_cm sm_po17 (3, m_17_85) sm_x17_85 = true := by decide +kernel
theorem sm_cm17_86 : sm_cm sm_po17 (2, m_17_86) sm_x17_86 = true := by decide +kernel
theorem sm_cm17_87 : sm_cm sm_po17 (2, m_17_87) sm_x17_87 = true := by decide +kernel
theorem sm_cm17_88 : sm_cm sm_po17 (3, m_17_88) sm_x17_88 = true := by decide +kernel
theorem sm_cm17_89 : sm_cm sm_po17 (4, m_17_89) sm_x17_89 = true := by decide +kernel
theorem sm_cm17_90 : sm_cm sm_po17 (3, m_17_90) sm_x17_90 = true := by decide +kernel
theorem sm_cm17_91 : sm_cm sm_po17 (8, m_17_91) sm_x17_91 = true := by decide +kernel
theorem sm_cm17_92 : sm_cm sm_po17 (2, m_17_92) sm_x17_92 = true := by decide +kernel
theorem sm_cm17_93 : sm_cm sm_po17 (2, m_17_93) sm_x17_93 = true := by decide +kernel
theorem sm_cm17_94 : sm_cm sm_po17 (5, m_17_94) sm_x17_94 = true := by decide +kernel
theorem sm_cm17_95 : sm_cm sm_po17 (4, m_17_95) sm_x17_95 = true := by decide +kernel
theorem sm_cm17_96 : sm_cm sm_po17 (4, m_17_96) sm_x17_96 = true := by decide +kernel
theorem sm_cm17_97 : sm_cm sm_po17 (5, m_17_97) sm_x17_97 = true := by decide +kernel
theorem sm_cm17_98 : sm_cm sm_po17 (2, m_17_98) sm_x17_98 = true := by decide +kernel
theorem sm_cm17_99 : sm_cm sm_po17 (5, m_17_99) sm_x17_99 = true := by decide +kernel
theorem sm_cm17_100 : sm_cm sm_po17 (10, m_17_100) sm_x17_100 = true := by decide +kernel
theorem sm_cm17_101 : sm_cm sm_po17 (7, m_17_101) sm_x17_101 = true := by decide +kernel
theorem sm_cm17_102 : sm_cm sm_po17 (7, m_17_102) sm_x17_102 = true := by decide +kernel
theorem sm_cm17_103 : sm_cm sm_po17 (4, m_17_103) sm_x17_103 = true := by decide +kernel
theorem sm_cm17_104 : sm_cm sm_po17 (2, m_17_104) sm_x17_104 = true := by decide +kernel
theorem sm_cm17_105 : sm_cm sm_po17 (4, m_17_105) sm_x17_105 = true := by decide +kernel
theorem sm_cm17_106 : sm_cm sm_po17 (2, m_17_106) sm_x17_106 = true := by decide +kernel
theorem sm_cm17_107 : sm_cm sm_po17 (3, m_17_107) sm_x17_107 = true := by decide +kernel
theorem sm_cm17_108 : sm_cm sm_po17 (3, m_17_108) sm_x17_108 = true := by decide +kernel
theorem sm_cm17_109 : sm_cm sm_po17 (3, m_17_109) sm_x17_109 = true := by decide +kernel
theorem sm_cm17_110 : sm_cm sm_po17 (1, m_17_110) sm_x17_110 = true := by decide +kernel
theorem sm_cm17_111 : sm_cm sm_po17 (5, m_17_111) sm_x17_111 = true := by decide +kernel
theorem sm_cm17_112 : sm_cm sm_po17 (3, m_17_112) sm_x17_112 = true := by decide +kernel
theorem sm_cm17_113 : sm_cm sm_po17 (4, m_17_113) sm_x17_113 = true := by decide +kernel
theorem sm_cm17_114 : sm_cm sm_po17 (4, m_17_114) sm_x17_114 = true := by decide +kernel
theorem sm_cm17_115 : sm_cm sm_po17 (6, m_17_115) sm_x17_115 = true := by decide +kernel
theorem sm_cm17_116 : sm_cm sm_po17 (4, m_17_116) sm_x17_116 = true := by decide +kernel
theorem sm_cm17_117 : sm_cm sm_po17 (2, m_17_117) sm_x17_117 = true := by decide +kernel
theorem sm_cm17_118 : sm_cm sm_po17 (3, m_17_118) sm_x17_118 = true := by decide +kernel
theorem sm_cm17_119 : sm_cm sm_po17 (4, m_17_119) sm_x17_119 = true := by decide +kernel
theorem sm_cm17_120 : sm_cm sm_po17 (3, m_17_120) sm_x17_120 = true := by decide +kernel
theorem sm_cm17_121 : sm_cm sm_po17 (3, m_17_121) sm_x17_121 = true := by decide +kernel
theorem sm_cm17_122 : sm_cm sm_po17 (1, m_17_122) sm_x17_122 = true := by decide +kernel
theorem sm_cm17_123 : sm_cm sm_po17 (1, m_17_123) sm_x17_123 = true := by decide +kernel
theorem sm_cm17_124 : sm_cm sm_po17 (5, m_17_124) sm_x17_124 = true := by decide +kernel
theorem sm_cm17_125 : sm_cm sm_po17 (5, m_17_125) sm_x17_125 = true := by decide +kernel
theorem sm_cm17_126 : sm_cm sm_po17 (2, m_17_126) sm_x17_126 = true := by decide +kernel
theorem sm_cm17_127 : sm_cm sm_po17 (4, m_17_127) sm_x17_127 = true := by decide +kernel
theorem sm_cm17_128 : sm_cm sm_po17 (1, m_17_128) sm_x17_128 = true := by decide +kernel
theorem sm_cm17_129 : sm_cm sm_po17 (1, m_17_129) sm_x17_129 = true := by decide +kernel
theorem sm_cm17_130 : sm_cm sm_po17 (5, m_17_130) sm_x17_130 = true := by decide +kernel
theorem sm_cm17_131 : sm_cm sm_po17 (5, m_17_131) sm_x17_131 = true := by decide +kernel
theorem sm_cm17_132 : sm_cm sm_po17 (5, m_17_132) sm_x17_132 = true := by decide +kernel
theorem sm_cm17_133 : sm_cm sm_po17 (4, m_17_133) sm_x17_133 = true := by decide +kernel
theorem sm_cm17_134 : sm_cm sm_po17 (6, m_17_134) sm_x17_134 = true := by decide +kernel
theorem sm_cm17_135 : sm_cm sm_po17 (8, m_17_135) sm_x17_135 = true := by decide +kernel
theorem sm_cm17_136 : sm_cm sm_po17 (4, m_17_136) sm_x17_136 = true := by decide +kernel
theorem sm_cm17_137 : sm_cm sm_po17 (10, m_17_137) sm_x17_137 = true := by decide +kernel
theorem sm_cm17_138 : sm_cm sm_po17 (4, m_17_138) sm_x17_138 = true := by decide +kernel
theorem sm_cm17_139 : sm_cm sm_po17 (2, m_17_139) sm_x17_139 = true := by decide +kernel
theorem sm_cm17_140 : sm_cm sm_po17 (7, m_17_140) sm_x17_140 = true := by decide +kernel
theorem sm_cm17_141 : sm_cm sm_po17 (2, m_17_141) sm_x17_141 = true := by decide +kernel
theorem sm_cm17_142 : sm_cm sm_po17 (6, m_17_142) sm_x17_142 = true := by decide +kernel
theorem sm_cm17_143 : sm_cm sm_po17 (5, m_17_143) sm_x17_143 = true := by decide +kernel
theorem sm_cm17_144 : sm_cm sm_po17 (3, m_17_144) sm_x17_144 = true := by decide +kernel
theorem sm_cm17_145 : sm_cm sm_po17 (3, m_17_145) sm_x17_145 = true := by decide +kernel
theorem sm_cm17_146 : sm_cm sm_po17 (2, m_17_146) sm_x17_146 = true := by decide +kernel
theorem sm_cm17_147 : sm_cm sm_po17 (2, m_17_147) sm_x17_147 = true := by decide +kernel
theorem sm_cm17_148 : sm_cm sm_po17 (1, m_17_148) sm_x17_148 = true := by decide +kernel
theorem sm_cm17_149 : sm_cm sm_po17 (4, m_17_149) sm_x17_149 = true := by decide +kernel
theorem sm_cm17_150 : sm_cm sm_po17 (3, m_17_150) sm_x17_150 = true := by decide +kernel
theorem sm_cm17_151 : sm_cm sm_po17 (4, m_17_151) sm_x17_151 = true := by decide +kernel
theorem sm_cm17_152 : sm_cm sm_po17 (4, m_17_152) sm_x17_152 = true := by decide +kernel
theorem sm_cm17_153 : sm_cm sm_po17 (3, m_17_153) sm_x17_153 = true := by decide +kernel
theorem sm_cm17_154 : sm_cm sm_po17 (2, m_17_154) sm_x17_154 = true := by decide +kernel
theorem sm_cm17_155 : sm_cm sm_po17 (1, m_17_155) sm_x17_155 = true := by decide +kernel
theorem sm_cm17_156 : sm_cm sm_po17 (2, m_17_156) sm_x17_156 = true := by decide +kernel
theorem sm_cm17_157 : sm_cm sm_po17 (2, m_17_157) sm_x17_157 = true := by decide +kernel
theorem sm_cm17_158 : sm_cm sm_po17 (4, m_17_158) sm_x17_158 = true := by decide +kernel
theorem sm_cm17_159 : sm_cm sm_po17 (4, m_17_159) sm_x17_159 = true := by decide +kernel
theorem sm_cm17_160 : sm_cm sm_po17 (3, m_17_160) sm_x17_160 = true := by decide +kernel
theorem sm_cm17_161 : sm_cm sm_po17 (3, m_17_161) sm_x17_161 = true := by decide +kernel
theorem sm_cm17_162 : sm_cm sm_po17 (5, m_17_162) sm_x17_162 = true := by decide +kernel
theorem sm_cm17_163 : sm_cm sm_po17 (5, m_17_163) sm_x17_163 = true := by decide +kernel
theorem sm_cm17_164 : sm_cm sm_po17 (6, m_17_164) sm_x17_164 = true := by decide +kernel
theorem sm_cm17_165 : sm_cm sm_po17 (7, m_17_165) sm_x17_165 = true := by decide +kernel
theorem sm_cm17_166 : sm_cm sm_po17 (10, m_17_166) sm_x17_166 = true := by decide +kernel
theorem sm_cm17_167 : sm_cm sm_po17 (11, m_17_167) sm_x17_167 = true := by decide +kernel
theorem sm_cm17_168 : sm_cm sm_po17 (4, m_17_168) sm_x17_168 = true := by decide +kernel
theorem sm_cm17_169 : sm_cm sm_po17 (9, m_17_169) sm_x17_169 = true := by decide +kernel
theorem sm_cm17_170 : sm_cm sm_po17 (3, m_17_170) sm_x17_170 = true := by decide +kernel
theorem sm_cm17_171 : sm_cm sm_po17 (5, m_17_171) sm_x17_171 = true := by decide +kernel
theorem sm_cm17_172 : sm_cm sm_po17 (5, m_17_172) sm_x17_172 = true := by decide +kernel
theorem sm_cm17_173 : sm_cm sm_po17 (2, m_17_173) sm_x17_173 = true := by decide +kernel
theorem sm_cm17_174 : sm_cm sm_po17 (3, m_17_174) sm_x17_174 = true := by decide +kernel
theorem sm_cm17_175 : sm_cm sm_po17 (14, m_17_175) sm_x17_175 = true := by decide +kernel
theorem sm_cm17_176 : sm_cm sm_po17 (2, m_17_176) sm_x17_176 = true := by decide +kernel
theorem sm_cm17_177 : sm_cm sm_po17 (7, m_17_177) sm_x17_177 = true := by decide +kernel
theorem sm_cm17_178 : sm_cm sm_po17 (3, m_17_178) sm_x17_178 = true := by decide +kernel
theorem sm_cm17_179 : sm_cm sm_po17 (2, m_17_179) sm_x17_179 = true := by decide +kernel
theorem sm_cm17_180 : sm_cm sm_po17 (6, m_17_180) sm_x17_180 = true := by decide +kernel
theorem sm_cm17_181 : sm_cm sm_po17 (2, m_17_181) sm_x17_181 = true := by decide +kernel
theorem sm_cm17_182 : sm_cm sm_po17 (3, m_17_182) sm_x17_182 = true := by decide +kernel
theorem sm_cm17_183 : sm_cm sm_po17 (3, m_17_183) sm_x17_183 = true := by decide +kernel
theorem sm_cm17_184 : sm_cm sm_po17 (5, m_17_184) sm_x17_184 = true := by decide +kernel
theorem sm_cm17_185 : sm_cm sm_po17 (5, m_17_185) sm_x17_185 = true := by decide +kernel
theorem sm_cm17_186 : sm_cm sm_po17 (5, m_17_186) sm_x17_186 = true := by decide +kernel
theorem sm_cm17_187 : sm_cm sm_po17 (3, m_17_187) sm_x17_187 = true := by decide +kernel
theorem sm_cm17_188 : sm_cm sm_po17 (4, m_17_188) sm_x17_188 = true := by decide +kernel
theorem sm_cm17_189 : sm_cm sm_po17 (6, m_17_189) sm_x17_189 = true := by decide +kernel
theorem sm_cc17 : sm_cc sm_po17 am_mt17 sm_mt17 := ⟨sm_cm17_0, sm_cm17_1, sm_cm17_2, sm_cm17_3, sm_cm17_4, sm_cm17_5, sm_cm17_6, sm_cm17_7, sm_cm17_8, sm_cm17_9, sm_cm17_10, sm_cm17_11, sm_cm17_12, sm_cm17_13, sm_cm17_14, sm_cm17_15, sm_cm17_16, sm_cm17_17, sm_cm17_18, sm_cm17_19, sm_cm17_20, sm_cm17_21, sm_cm17_22, sm_cm17_23, sm_cm17_24, sm_cm17_25, sm_cm17_26, sm_cm17_27, sm_cm17_28, sm_cm17_29, sm_cm17_30, sm_cm17_31, sm_cm17_32, sm_cm17_33, sm_cm17_34, sm_cm17_35, sm_cm17_36, sm_cm17_37, sm_cm17_38, sm_cm17_39, sm_cm17_40, sm_cm17_41, sm_cm17_42, sm_cm17_43, sm_cm17_44, sm_cm17_45, sm_cm17_46, sm_cm17_47, sm_cm17_48, sm_cm17_49, sm_cm17_50, sm_cm17_51, sm_cm17_52, sm_cm17_53, sm_cm17_54, sm_cm17_55, sm_cm17_56, sm_cm17_57, sm_cm17_58, sm_cm17_59, sm_cm17_60, sm_cm17_61, sm_cm17_62, sm_cm17_63, sm_cm17_64, sm_cm17_65, sm_cm17_66, sm_cm17_67, sm_cm17_68, sm_cm17_69, sm_cm17_70, sm_cm17_71, sm_cm17_72, sm_cm17_73, sm_cm17_74, sm_cm17_75, sm_cm17_76, sm_cm17_77, sm_cm17_78, sm_cm17_79, sm_cm17_80, sm_cm17_81, sm_cm17_82, sm_cm17_83, sm_cm17_84, sm_cm17_85, sm_cm17_86, sm_cm17_87, sm_cm17_88, sm_cm17_89, sm_cm17_90, sm_cm17_91, sm_cm17_92, sm_cm17_93, sm_cm17_94, sm_cm17_95, sm_cm17_96, sm_cm17_97, sm_cm17_98, sm_cm17_99, sm_cm17_100, sm_cm17_101, sm_cm17_102, sm_cm17_103, sm_cm17_104, sm_cm17_105, sm_cm17_106, sm_cm17_107, sm_cm17_108, sm_cm17_109, sm_cm17_110, sm_cm17_111, sm_cm17_112, sm_cm17_113, sm_cm17_114, sm_cm17_115, sm_cm17_116, sm_cm17_117, sm_cm17_118, sm_cm17_119, sm_cm17_120, sm_cm17_121, sm_cm17_122, sm_cm17_123, sm_cm17_124, sm_cm17_125, sm_cm17_126, sm_cm17_127, sm_cm17_128, sm_cm17_129, sm_cm17_130, sm_cm17_131, sm_cm17_132, sm_cm17_133, sm_cm17_134, sm_cm17_135, sm_cm17_136, sm_cm17_137, sm_cm17_138, sm_cm17_139, sm_cm17_140, sm_cm17_141, sm_cm17_142, sm_cm17_143, sm_cm17_144, sm_cm17_145, sm_cm17_146, sm_cm17_147, sm_cm17_148, sm_cm17_149, sm_cm17_150, sm_cm17_151, sm_cm17_152, sm_cm17_153, sm_cm17_154, sm_cm17_155, sm_cm17_156, sm_cm17_157, sm_cm17_158, sm_cm17_159, sm_cm17_160, sm_cm17_161, sm_cm17_162, sm_cm17_163, sm_cm17_164, sm_cm17_165, sm_cm17_166, sm_cm17_167, sm_cm17_168, sm_cm17_169, sm_cm17_170, sm_cm17_171, sm_cm17_172, sm_cm17_173, sm_cm17_174, sm_cm17_175, sm_cm17_176, sm_cm17_177, sm_cm17_178, sm_cm17_179, sm_cm17_180, sm_cm17_181, sm_cm17_182, sm_cm17_183, sm_cm17_184, sm_cm17_185, sm_cm17_186, sm_cm17_187, sm_cm17_188, sm_cm17_189, trivial⟩
theorem sm_lawc : sm_cm sm_po18 (4, m_18_0) sm_law = true := by decide +kernel
theorem sm_all : ∀ c i q I, (am_mt.getD c [])[i]? = some q → sm_mi2 c i = some I → sm_good sm_mi2 q I := by
  intro c i q I hq hm
  unfold sm_mi2 at hm
  rw [Option.map_eq_some_iff] at hm
  obtain ⟨x, hx, rfl⟩ := hm
  match c, hq, hx with
  | 0, hq, hx => exact sm_cc_ok (own := "TowerComputer") rfl sm_po0_ok sm_arrs_ok sm_xo0 sm_cc0 i q x hq hx
  | 1, hq, hx => exact sm_cc_ok (own := "TowerComputer$Bare") rfl sm_po1_ok sm_arrs_ok sm_xo1 sm_cc1 i q x hq hx
  | 2, hq, hx => exact sm_cc_ok (own := "TowerComputer$Board") rfl sm_po2_ok sm_arrs_ok sm_xo2 sm_cc2 i q x hq hx
  | 3, hq, hx => exact sm_cc_ok (own := "TowerComputer$Chip") rfl sm_po3_ok sm_arrs_ok sm_xo3 sm_cc3 i q x hq hx
  | 4, hq, hx => exact sm_cc_ok (own := "TowerComputer$ChipReader") rfl sm_po4_ok sm_arrs_ok sm_xo4 sm_cc4 i q x hq hx
  | 5, hq, hx => exact sm_cc_ok (own := "TowerComputer$ChipTokens") rfl sm_po5_ok sm_arrs_ok sm_xo5 sm_cc5 i q x hq hx
  | 6, hq, hx => exact sm_cc_ok (own := "TowerComputer$Classes") rfl sm_po6_ok sm_arrs_ok sm_xo6 sm_cc6 i q x hq hx
  | 7, hq, hx => exact sm_cc_ok (own := "TowerComputer$Compiler") rfl sm_po7_ok sm_arrs_ok sm_xo7 sm_cc7 i q x hq hx
  | 8, hq, hx => exact sm_cc_ok (own := "TowerComputer$Listing") rfl sm_po8_ok sm_arrs_ok sm_xo8 sm_cc8 i q x hq hx
  | 9, hq, hx => exact sm_cc_ok (own := "TowerComputer$Names") rfl sm_po9_ok sm_arrs_ok sm_xo9 sm_cc9 i q x hq hx
  | 10, hq, hx => exact sm_cc_ok (own := "TowerComputer$Processor") rfl sm_po10_ok sm_arrs_ok sm_xo10 sm_cc10 i q x hq hx
  | 11, hq, hx => exact sm_cc_ok (own := "TowerComputer$Signs") rfl sm_po11_ok sm_arrs_ok sm_xo11 sm_cc11 i q x hq hx
  | 12, hq, hx => exact sm_cc_ok (own := "TowerComputer$Subs") rfl sm_po12_ok sm_arrs_ok sm_xo12 sm_cc12 i q x hq hx
  | 13, hq, hx => exact sm_cc_ok (own := "TowerComputer$Tokens") rfl sm_po13_ok sm_arrs_ok sm_xo13 sm_cc13 i q x hq hx
  | 14, hq, hx => exact sm_cc_ok (own := "TowerComputer$Translator") rfl sm_po14_ok sm_arrs_ok sm_xo14 sm_cc14 i q x hq hx
  | 15, hq, hx => exact sm_cc_ok (own := "TowerComputer$Variables") rfl sm_po15_ok sm_arrs_ok sm_xo15 sm_cc15 i q x hq hx
  | 16, hq, hx => exact sm_cc_ok (own := "TowerComputer$Vm") rfl sm_po16_ok sm_arrs_ok sm_xo16 sm_cc16 i q x hq hx
  | 17, hq, hx => exact sm_cc_ok (own := "TowerComputerModel") rfl sm_po17_ok sm_arrs_ok sm_xo17 sm_cc17 i q x hq hx
  | n + 18, hq, hx =>
    have e : sm_mt[n + 18]? = none := List.getElem?_eq_none (by show 18 ≤ n + 18; omega)
    rw [List.getD_eq_getElem?_getD, e] at hx
    simp at hx
