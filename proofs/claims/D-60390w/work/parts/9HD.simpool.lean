/-! SIMULATION, 31b: the pools are right -/
theorem sm_po0_0 : ((sm_po0.drop 0).take 20).all (sm_pck sm_mt "TowerComputer") = true := by decide +kernel
theorem sm_po0_20 : ((sm_po0.drop 20).take 20).all (sm_pck sm_mt "TowerComputer") = true := by decide +kernel
theorem sm_po0_40 : ((sm_po0.drop 40).take 20).all (sm_pck sm_mt "TowerComputer") = true := by decide +kernel
theorem sm_po0_60 : ((sm_po0.drop 60).take 20).all (sm_pck sm_mt "TowerComputer") = true := by decide +kernel
theorem sm_po0_80 : ((sm_po0.drop 80).take 20).all (sm_pck sm_mt "TowerComputer") = true := by decide +kernel
theorem sm_po0_100 : ((sm_po0.drop 100).take 20).all (sm_pck sm_mt "TowerComputer") = true := by decide +kernel
theorem sm_po0_120 : ((sm_po0.drop 120).take 20).all (sm_pck sm_mt "TowerComputer") = true := by decide +kernel
theorem sm_po0_140 : ((sm_po0.drop 140).take 20).all (sm_pck sm_mt "TowerComputer") = true := by decide +kernel
theorem sm_po0_160 : ((sm_po0.drop 160).take 20).all (sm_pck sm_mt "TowerComputer") = true := by decide +kernel
theorem sm_po0_180 : ((sm_po0.drop 180).take 20).all (sm_pck sm_mt "TowerComputer") = true := by decide +kernel
theorem sm_po0_200 : ((sm_po0.drop 200).take 20).all (sm_pck sm_mt "TowerComputer") = true := by decide +kernel
theorem sm_po0_220 : ((sm_po0.drop 220).take 20).all (sm_pck sm_mt "TowerComputer") = true := by decide +kernel
theorem sm_po0_240 : ((sm_po0.drop 240).take 20).all (sm_pck sm_mt "TowerComputer") = true := by decide +kernel
theorem sm_po0_260 : ((sm_po0.drop 260).take 20).all (sm_pck sm_mt "TowerComputer") = true := by decide +kernel
theorem sm_po0_ok : ∀ e ∈ sm_po0, sm_pok sm_mi2 "TowerComputer" e.1 e.2.1 e.2.2.1 := sm_po_ok (sm_chk20 sm_po0 0 sm_po0_0 (sm_chk20 sm_po0 20 sm_po0_20 (sm_chk20 sm_po0 40 sm_po0_40 (sm_chk20 sm_po0 60 sm_po0_60 (sm_chk20 sm_po0 80 sm_po0_80 (sm_chk20 sm_po0 100 sm_po0_100 (sm_chk20 sm_po0 120 sm_po0_120 (sm_chk20 sm_po0 140 sm_po0_140 (sm_chk20 sm_po0 160 sm_po0_160 (sm_chk20 sm_po0 180 sm_po0_180 (sm_chk20 sm_po0 200 sm_po0_200 (sm_chk20 sm_po0 220 sm_po0_220 (sm_chk20 sm_po0 240 sm_po0_240 (sm_chk20 sm_po0 260 sm_po0_260 (by decide +kernel)))))))))))))))
theorem sm_po1_0 : ((sm_po1.drop 0).take 20).all (sm_pck sm_mt "TowerComputer$Bare") = true := by decide +kernel
theorem sm_po1_ok : ∀ e ∈ sm_po1, sm_pok sm_mi2 "TowerComputer$Bare" e.1 e.2.1 e.2.2.1 := sm_po_ok (sm_chk20 sm_po1 0 sm_po1_0 (by decide +kernel))
theorem sm_po2_0 : ((sm_po2.drop 0).take 20).all (sm_pck sm_mt "TowerComputer$Board") = true := by decide +kernel
theorem sm_po2_20 : ((sm_po2.drop 20).take 20).all (sm_pck sm_mt "TowerComputer$Board") = true := by decide +kernel
theorem sm_po2_40 : ((sm_po2.drop 40).take 20).all (sm_pck sm_mt "TowerComputer$Board") = true := by decide +kernel
theorem sm_po2_60 : ((sm_po2.drop 60).take 20).all (sm_pck sm_mt "TowerComputer$Board") = true := by decide +kernel
theorem sm_po2_80 : ((sm_po2.drop 80).take 20).all (sm_pck sm_mt "TowerComputer$Board") = true := by decide +kernel
theorem sm_po2_ok : ∀ e ∈ sm_po2, sm_pok sm_mi2 "TowerComputer$Board" e.1 e.2.1 e.2.2.1 := sm_po_ok (sm_chk20 sm_po2 0 sm_po2_0 (sm_chk20 sm_po2 20 sm_po2_20 (sm_chk20 sm_po2 40 sm_po2_40 (sm_chk20 sm_po2 60 sm_po2_60 (sm_chk20 sm_po2 80 sm_po2_80 (by decide +kernel))))))
theorem sm_po3_0 : ((sm_po3.drop 0).take 20).all (sm_pck sm_mt "TowerComputer$Chip") = true := by decide +kernel
theorem sm_po3_ok : ∀ e ∈ sm_po3, sm_pok sm_mi2 "TowerComputer$Chip" e.1 e.2.1 e.2.2.1 := sm_po_ok (sm_chk20 sm_po3 0 sm_po3_0 (by decide +kernel))
theorem sm_po4_0 : ((sm_po4.drop 0).take 20).all (sm_pck sm_mt "TowerComputer$ChipReader") = true := by decide +kernel
theorem sm_po4_20 : ((sm_po4.drop 20).take 20).all (sm_pck sm_mt "TowerComputer$ChipReader") = true := by decide +kernel
theorem sm_po4_40 : ((sm_po4.drop 40).take 20).all (sm_pck sm_mt "TowerComputer$ChipReader") = true := by decide +kernel
theorem sm_po4_60 : ((sm_po4.drop 60).take 20).all (sm_pck sm_mt "TowerComputer$ChipReader") = true := by decide +kernel
theorem sm_po4_80 : ((sm_po4.drop 80).take 20).all (sm_pck sm_mt "TowerComputer$ChipReader") = true := by decide +kernel
theorem sm_po4_ok : ∀ e ∈ sm_po4, sm_pok sm_mi2 "TowerComputer$ChipReader" e.1 e.2.1 e.2.2.1 := sm_po_ok (sm_chk20 sm_po4 0 sm_po4_0 (sm_chk20 sm_po4 20 sm_po4_20 (sm_chk20 sm_po4 40 sm_po4_40 (sm_chk20 sm_po4 60 sm_po4_60 (sm_chk20 sm_po4 80 sm_po4_80 (by decide +kernel))))))
theorem sm_po5_0 : ((sm_po5.drop 0).take 20).all (sm_pck sm_mt "TowerComputer$ChipTokens") = true := by decide +kernel
theorem sm_po5_20 : ((sm_po5.drop 20).take 20).all (sm_pck sm_mt "TowerComputer$ChipTokens") = true := by decide +kernel
theorem sm_po5_40 : ((sm_po5.drop 40).take 20).all (sm_pck sm_mt "TowerComputer$ChipTokens") = true := by decide +kernel
theorem sm_po5_ok : ∀ e ∈ sm_po5, sm_pok sm_mi2 "TowerComputer$ChipTokens" e.1 e.2.1 e.2.2.1 := sm_po_ok (sm_chk20 sm_po5 0 sm_po5_0 (sm_chk20 sm_po5 20 sm_po5_20 (sm_chk20 sm_po5 40 sm_po5_40 (by decide +kernel))))
theorem sm_po6_0 : ((sm_po6.drop 0).take 20).all (sm_pck sm_mt "TowerComputer$Classes") = true := by decide +kernel
theorem sm_po6_ok : ∀ e ∈ sm_po6, sm_pok sm_mi2 "TowerComputer$Classes" e.1 e.2.1 e.2.2.1 := sm_po_ok (sm_chk20 sm_po6 0 sm_po6_0 (by decide +kernel))
theorem sm_po7_0 : ((sm_po7.drop 0).take 20).all (sm_pck sm_mt "TowerComputer$Compiler") = true := by decide +kernel
theorem sm_po7_20 : ((sm_po7.drop 20).take 20).all (sm_pck sm_mt "TowerComputer$Compiler") = true := by decide +kernel
theorem sm_po7_40 : ((sm_po7.drop 40).take 20).all (sm_pck sm_mt "TowerComputer$Compiler") = true := by decide +kernel
theorem sm_po7_60 : ((sm_po7.drop 60).take 20).all (sm_pck sm_mt "TowerComputer$Compiler") = true := by decide +kernel
theorem sm_po7_80 : ((sm_po7.drop 80).take 20).all (sm_pck sm_mt "TowerComputer$Compiler") = true := by decide +kernel
theorem sm_po7_100 : ((sm_po7.drop 100).take 20).all (sm_pck sm_mt "TowerComputer$Compiler") = true := by decide +kernel
theorem sm_po7_120 : ((sm_po7.drop 120).take 20).all (sm_pck sm_mt "TowerComputer$Compiler") = true := by decide +kernel
theorem sm_po7_140 : ((sm_po7.drop 140).take 20).all (sm_pck sm_mt "TowerComputer$Compiler") = true := by decide +kernel
theorem sm_po7_160 : ((sm_po7.drop 160).take 20).all (sm_pck sm_mt "TowerComputer$Compiler") = true := by decide +kernel
theorem sm_po7_180 : ((sm_po7.drop 180).take 20).all (sm_pck sm_mt "TowerComputer$Compiler") = true := by decide +kernel
theorem sm_po7_ok : ∀ e ∈ sm_po7, sm_pok sm_mi2 "TowerComputer$Compiler" e.1 e.2.1 e.2.2.1 := sm_po_ok (sm_chk20 sm_po7 0 sm_po7_0 (sm_chk20 sm_po7 20 sm_po7_20 (sm_chk20 sm_po7 40 sm_po7_40 (sm_chk20 sm_po7 60 sm_po7_60 (sm_chk20 sm_po7 80 sm_po7_80 (sm_chk20 sm_po7 100 sm_po7_100 (sm_chk20 sm_po7 120 sm_po7_120 (sm_chk20 sm_po7 140 sm_po7_140 (sm_chk20 sm_po7 160 sm_po7_160 (sm_chk20 sm_po7 180 sm_po7_180 (by decide +kernel)))))))))))
theorem sm_po8_0 : ((sm_po8.drop 0).take 20).all (sm_pck sm_mt "TowerComputer$Listing") = true := by decide +kernel
theorem sm_po8_ok : ∀ e ∈ sm_po8, sm_pok sm_mi2 "TowerComputer$Listing" e.1 e.2.1 e.2.2.1 := sm_po_ok (sm_chk20 sm_po8 0 sm_po8_0 (by decide +kernel))
theorem sm_po9_0 : ((sm_po9.drop 0).take 20).all (sm_pck sm_mt "TowerComputer$Names") = true := by decide +kernel
theorem sm_po9_ok : ∀ e ∈ sm_po9, sm_pok sm_mi2 "TowerComputer$Names" e.1 e.2.1 e.2.2.1 := sm_po_ok (sm_chk20 sm_po9 0 sm_po9_0 (by decide +kernel))
theorem sm_po10_0 : ((sm_po10.drop 0).take 20).all (sm_pck sm_mt "TowerComputer$Processor") = true := by decide +kernel
theorem sm_po10_20 : ((sm_po10.drop 20).take 20).all (sm_pck sm_mt "TowerComputer$Processor") = true := by decide +kernel
theorem sm_po10_ok : ∀ e ∈ sm_po10, sm_pok sm_mi2 "TowerComputer$Processor" e.1 e.2.1 e.2.2.1 := sm_po_ok (sm_chk20 sm_po10 0 sm_po10_0 (sm_chk20 sm_po10 20 sm_po10_20 (by decide +kernel)))
theorem sm_po11_0 : ((sm_po11.drop 0).take 20).all (sm_pck sm_mt "TowerComputer$Signs") = true := by decide +kernel
theorem sm_po11_20 : ((sm_po11.drop 20).take 20).all (sm_pck sm_mt "TowerComputer$Signs") = true := by decide +kernel
theorem sm_po11_40 : ((sm_po11.drop 40).take 20).all (sm_pck sm_mt "TowerComputer$Signs") = true := by decide +kernel
theorem sm_po11_60 : ((sm_po11.drop 60).take 20).all (sm_pck sm_mt "TowerComputer$Signs") = true := by decide +kernel
theorem sm_po11_80 : ((sm_po11.drop 80).take 20).all (sm_pck sm_mt "TowerComputer$Signs") = true := by decide +kernel
theorem sm_po11_ok : ∀ e ∈ sm_po11, sm_pok sm_mi2 "TowerComputer$Signs" e.1 e.2.1 e.2.2.1 := sm_po_ok (sm_chk20 sm_po11 0 sm_po11_0 (sm_chk20 sm_po11 20 sm_po11_20 (sm_chk20 sm_po11 40 sm_po11_40 (sm_chk20 sm_po11 60 sm_po11_60 (sm_chk20 sm_po11 80 sm_po11_80 (by decide +kernel))))))
theorem sm_po12_0 : ((sm_po12.drop 0).take 20).all (sm_pck sm_mt "TowerComputer$Subs") = true := by decide +kernel
theorem sm_po12_ok : ∀ e ∈ sm_po12, sm_pok sm_mi2 "TowerComputer$Subs" e.1 e.2.1 e.2.2.1 := sm_po_ok (sm_chk20 sm_po12 0 sm_po12_0 (by decide +kernel))
theorem sm_po13_0 : ((sm_po13.drop 0).take 20).all (sm_pck sm_mt "TowerComputer$Tokens") = true := by decide +kernel
theorem sm_po13_20 : ((sm_po13.drop 20).take 20).all (sm_pck sm_mt "TowerComputer$Tokens") = true := by decide +kernel
theorem sm_po13_ok : ∀ e ∈ sm_po13, sm_pok sm_mi2 "TowerComputer$Tokens" e.1 e.2.1 e.2.2.1 := sm_po_ok (sm_chk20 sm_po13 0 sm_po13_0 (sm_chk20 sm_po13 20 sm_po13_20 (by decide +kernel)))
theorem sm_po14_0 : ((sm_po14.drop 0).take 20).all (sm_pck sm_mt "TowerComputer$Translator") = true := by decide +kernel
theorem sm_po14_20 : ((sm_po14.drop 20).take 20).all (sm_pck sm_mt "TowerComputer$Translator") = true := by decide +kernel
theorem sm_po14_40 : ((sm_po14.drop 40).take 20).all (sm_pck sm_mt "TowerComputer$Translator") = true := by decide +kernel
theorem sm_po14_ok : ∀ e ∈ sm_po14, sm_pok sm_mi2 "TowerComputer$Translator" e.1 e.2.1 e.2.2.1 := sm_po_ok (sm_chk20 sm_po14 0 sm_po14_0 (sm_chk20 sm_po14 20 sm_po14_20 (sm_chk20 sm_po14 40 sm_po14_40 (by decide +kernel))))
theorem sm_po15_0 : ((sm_po15.drop 0).take 20).all (sm_pck sm_mt "TowerComputer$Variables") = true := by decide +kernel
theorem sm_po15_ok : ∀ e ∈ sm_po15, sm_pok sm_mi2 "TowerComputer$Variables" e.1 e.2.1 e.2.2.1 := sm_po_ok (sm_chk20 sm_po15 0 sm_po15_0 (by decide +kernel))
theorem sm_po16_0 : ((sm_po16.drop 0).take 20).all (sm_pck sm_mt "TowerComputer$Vm") = true := by decide +kernel
theorem sm_po16_ok : ∀ e ∈ sm_po16, sm_pok sm_mi2 "TowerComputer$Vm" e.1 e.2.1 e.2.2.1 := sm_po_ok (sm_chk20 sm_po16 0 sm_po16_0 (by decide +kernel))
theorem sm_po17_0 : ((sm_po17.drop 0).take 20).all (sm_pck sm_mt "TowerComputerModel") = true := by decide +kernel
theorem sm_po17_20 : ((sm_po17.drop 20).take 20).all (sm_pck sm_mt "TowerComputerModel") = true := by decide +kernel
theorem sm_po17_40 : ((sm_po17.drop 40).take 20).all (sm_pck sm_mt "TowerComputerModel") = true := by decide +kernel
theorem sm_po17_60 : ((sm_po17.drop 60).take 20).all (sm_pck sm_mt "TowerComputerModel") = true := by decide +kernel
theorem sm_po17_80 : ((sm_po17.drop 80).take 20).all (sm_pck sm_mt "TowerComputerModel") = true := by decide +kernel
theorem sm_po17_100 : ((sm_po17.drop 100).take 20).all (sm_pck sm_mt "TowerComputerModel") = true := by decide +kernel
theorem sm_po17_120 : ((sm_po17.drop 120).take 20).all (sm_pck sm_mt "TowerComputerModel") = true := by decide +kernel
theorem sm_po17_140 : ((sm_po17.drop 140).take 20).all (sm_pck sm_mt "TowerComputerModel") = true := by decide +kernel
theorem sm_po17_160 : ((sm_po17.drop 160).take 20).all (sm_pck sm_mt "TowerComputerModel") = true := by decide +kernel
theorem sm_po17_180 : ((sm_po17.drop 180).take 20).all (sm_pck sm_mt "TowerComputerModel") = true := by decide +kernel
theorem sm_po17_200 : ((sm_po17.drop 200).take 20).all (sm_pck sm_mt "TowerComputerModel") = true := by decide +kernel
theorem sm_po17_220 : ((sm_po17.drop 220).take 20).all (sm_pck sm_mt "TowerComputerModel") = true := by decide +kernel
theorem sm_po17_240 : ((sm_po17.drop 240).take 20).all (sm_pck sm_mt "TowerComputerModel") = true := by decide +kernel
theorem sm_po17_260 : ((sm_po17.drop 260).take 20).all (sm_pck sm_mt "TowerComputerModel") = true := by decide +kernel
theorem sm_po17_280 : ((sm_po17.drop 280).take 20).all (sm_pck sm_mt "TowerComputerModel") = true := by decide +kernel
theorem sm_po17_300 : ((sm_po17.drop 300).take 20).all (sm_pck sm_mt "TowerComputerModel") = true := by decide +kernel
theorem sm_po17_320 : ((sm_po17.drop 320).take 20).all (sm_pck sm_mt "TowerComputerModel") = true := by decide +kernel
theorem sm_po17_340 : ((sm_po17.drop 340).take 20).all (sm_pck sm_mt "TowerComputerModel") = true := by decide +kernel
theorem sm_po17_360 : ((sm_po17.drop 360).take 20).all (sm_pck sm_mt "TowerComputerModel") = true := by decide +kernel
theorem sm_po17_380 : ((sm_po17.drop 380).take 20).all (sm_pck sm_mt "TowerComputerModel") = true := by decide +kernel
theorem sm_po17_400 : ((sm_po17.drop 400).take 20).all (sm_pck sm_mt "TowerComputerModel") = true := by decide +kernel
theorem sm_po17_420 : ((sm_po17.drop 420).take 20).all (sm_pck sm_mt "TowerComputerModel") = true := by decide +kernel
theorem sm_po17_440 : ((sm_po17.drop 440).take 20).all (sm_pck sm_mt "TowerComputerModel") = true := by decide +kernel
theorem sm_po17_460 : ((sm_po17.drop 460).take 20).all (sm_pck sm_mt "TowerComputerModel") = true := by decide +kernel
theorem sm_po17_480 : ((sm_po17.drop 480).take 20).all (sm_pck sm_mt "TowerComputerModel") = true := by decide +kernel
theorem sm_po17_500 : ((sm_po17.drop 500).take 20).all (sm_pck sm_mt "TowerComputerModel") = true := by decide +kernel
theorem sm_po17_520 : ((sm_po17.drop 520).take 20).all (sm_pck sm_mt "TowerComputerModel") = true := by decide +kernel
theorem sm_po17_ok : ∀ e ∈ sm_po17, sm_pok sm_mi2 "TowerComputerModel" e.1 e.2.1 e.2.2.1 := sm_po_ok (sm_chk20 sm_po17 0 sm_po17_0 (sm_chk20 sm_po17 20 sm_po17_20 (sm_chk20 sm_po17 40 sm_po17_40 (sm_chk20 sm_po17 60 sm_po17_60 (sm_chk20 sm_po17 80 sm_po17_80 (sm_chk20 sm_po17 100 sm_po17_100 (sm_chk20 sm_po17 120 sm_po17_120 (sm_chk20 sm_po17 140 sm_po17_140 (sm_chk20 sm_po17 160 sm_po17_160 (sm_chk20 sm_po17 180 sm_po17_180 (sm_chk20 sm_po17 200 sm_po17_200 (sm_chk20 sm_po17 220 sm_po17_220 (sm_chk20 sm_po17 240 sm_po17_240 (sm_chk20 sm_po17 260 sm_po17_260 (sm_chk20 sm_po17 280 sm_po17_280 (sm_chk20 sm_po17 300 sm_po17_300 (sm_chk20 sm_po17 320 sm_po17_320 (sm_chk20 sm_po17 340 sm_po17_340 (sm_chk20 sm_po17 360 sm_po17_360 (sm_chk20 sm_po17 380 sm_po17_380 (sm_chk20 sm_po17 400 sm_po17_400 (sm_chk20 sm_po17 420 sm_po17_420 (sm_chk20 sm_po17 440 sm_po17_440 (sm_chk20 sm_po17 460 sm_po17_460 (sm_chk20 sm_po17 480 sm_po17_480 (sm_chk20 sm_po17 500 sm_po17_500 (sm_chk20 sm_po17 520 sm_po17_520 (by decide +kernel))))))))))))))))))))))))))))
theorem sm_po18_0 : ((sm_po18.drop 0).take 20).all (sm_pck sm_mt "TowerComputerLaw") = true := by decide +kernel
theorem sm_po18_20 : ((sm_po18.drop 20).take 20).all (sm_pck sm_mt "TowerComputerLaw") = true := by decide +kernel
theorem sm_po18_40 : ((sm_po18.drop 40).take 20).all (sm_pck sm_mt "TowerComputerLaw") = true := by decide +kernel
theorem sm_po18_ok : ∀ e ∈ sm_po18, sm_pok sm_mi2 "TowerComputerLaw" e.1 e.2.1 e.2.2.1 := sm_po_ok (sm_chk20 sm_po18 0 sm_po18_0 (sm_chk20 sm_po18 20 sm_po18_20 (sm_chk20 sm_po18 40 sm_po18_40 (by decide +kernel))))
