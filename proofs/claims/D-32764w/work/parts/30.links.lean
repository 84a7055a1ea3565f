/-! what the tables say of fields, links, calls: printed by wip/gen/drive.py -/
theorem in_Ob : ∀ w ∈ u_ws "Massclaim$Obstacle" TOb 1, w ∈ lw_all := lw_in (u_ws "Massclaim$Obstacle" TOb 1) [1460] (by decide +kernel) (by decide +kernel)
theorem fb_0 (k : Nat) (hk : k < 19) : FB 0 k RX1 TX1 19 tyX1 := ⟨rfl, by decide, hk, in_X1, tyX1_ok, nmX1⟩
theorem fb_1 (k : Nat) (hk : k < 2) : FB 1 k RX2 TX2 2 tyX2 := ⟨rfl, by decide, hk, in_X2, tyX2_ok, nmX2⟩
theorem fb_2 (k : Nat) (hk : k < 6) : FB 2 k RX3 TX3 6 tyX3 := ⟨rfl, by decide, hk, in_X3, tyX3_ok, nmX3⟩
theorem fb_3 (k : Nat) (hk : k < 29) : FB 3 k RX4 TX4 29 tyX4 := ⟨rfl, by decide, hk, in_X4, tyX4_ok, nmX4⟩
theorem fb_4 (k : Nat) (hk : k < 22) : FB 4 k RX5 TX5 22 tyX5 := ⟨rfl, by decide, hk, in_X5, tyX5_ok, nmX5⟩
theorem fb_5 (k : Nat) (hk : k < 22) : FB 5 k RX6 TX6 22 tyX6 := ⟨rfl, by decide, hk, in_X6, tyX6_ok, nmX6⟩
theorem fb_6 (k : Nat) (hk : k < 4) : FB 6 k RX7 TX7 4 tyX7 := ⟨rfl, by decide, hk, in_X7, tyX7_ok, nmX7⟩
theorem fb_7 (k : Nat) (hk : k < 6) : FB 7 k RX8 TX8 6 tyX8 := ⟨rfl, by decide, hk, in_X8, tyX8_ok, nmX8⟩
theorem fb_8 (k : Nat) (hk : k < 5) : FB 8 k RX9 TX9 5 tyX9 := ⟨rfl, by decide, hk, in_X9, tyX9_ok, nmX9⟩
theorem fb_9 (k : Nat) (hk : k < 6) : FB 9 k RX10 TX10 6 tyX10 := ⟨rfl, by decide, hk, in_X10, tyX10_ok, nmX10⟩
theorem fb_10 (k : Nat) (hk : k < 1) : FB 10 k RX11 TOb 1 tyOb := ⟨rfl, by decide, hk, in_Ob, tyOb_ok, nmOb⟩
theorem fb_11 (k : Nat) (hk : k < 13) : FB 11 k RX12 TX12 13 tyX12 := ⟨rfl, by decide, hk, in_X12, tyX12_ok, nmX12⟩
theorem fb_12 (k : Nat) (hk : k < 10) : FB 12 k RX13 TX13 10 tyX13 := ⟨rfl, by decide, hk, in_X13, tyX13_ok, nmX13⟩
theorem fb_13 (k : Nat) (hk : k < 4) : FB 13 k RX14 TX14 4 tyX14 := ⟨rfl, by decide, hk, in_X14, tyX14_ok, nmX14⟩
theorem fb_14 (k : Nat) (hk : k < 4) : FB 14 k RX15 TX15 4 tyX15 := ⟨rfl, by decide, hk, in_X15, tyX15_ok, nmX15⟩
theorem fb_15 (k : Nat) (hk : k < 4) : FB 15 k RX16 TX16 4 tyX16 := ⟨rfl, by decide, hk, in_X16, tyX16_ok, nmX16⟩
theorem fb_16 (k : Nat) (hk : k < 3) : FB 16 k RX17 TX17 3 tyX17 := ⟨rfl, by decide, hk, in_X17, tyX17_ok, nmX17⟩
theorem fb_17 (k : Nat) (hk : k < 3) : FB 17 k RJ2 TJ2 3 tyJ2 := ⟨rfl, by decide, hk, in_J2, tyJ2_ok, nmJ2⟩
theorem fb_18 (k : Nat) (hk : k < 4) : FB 18 k RJ16 TJ16 4 tyJ16 := ⟨rfl, by decide, hk, in_J16, tyJ16_ok, nmJ16⟩
theorem wI_J1_1 : WI "java/util/AbstractList" 1 yJ0_init cJ0_init 1 0 := ⟨lw_meth q131, q67, q129, q130, rfl, ⟨by decide, by decide⟩, by decide +kernel⟩
theorem fl_J1_7 : FL "java/util/AbstractList" 7 17 0 .int false := ⟨_, _, _, _, "java/util/AbstractList", fb_17 0 (by decide), rfl, rfl, fun q => Bool.noConfusion q, q139, Or.inl rfl⟩
theorem wI_J2_1 : WI "java/util/ArrayList" 1 yJ1_init cJ1_init 1 0 := ⟨lw_meth q128, q68, q126, q127, rfl, ⟨by decide, by decide⟩, by decide +kernel⟩
theorem fl_J2_9 : FL "java/util/ArrayList" 9 17 1 (.array (.object "java/lang/Object")) false := ⟨_, _, _, _, "java/util/ArrayList", fb_17 1 (by decide), rfl, rfl, fun q => Bool.noConfusion q, q135, Or.inl rfl⟩
theorem nl_X2_7 : NL "Massclaim$Row" 7 17 3 := ⟨_, _, _, _, rfl, by decide, in_J2, tyJ2_ok, by decide, q121, q122, q69⟩
theorem wI_X2_9 : WI "Massclaim$Row" 9 yJ2_init cJ2_init 1 0 := ⟨lw_meth q125, q69, q123, q124, rfl, ⟨by decide, by decide⟩, by decide +kernel⟩
theorem fl_X2_10 : FL "Massclaim$Row" 10 1 0 (.object "java/util/List") true := ⟨_, _, _, _, "Massclaim$Row", fb_1 0 (by decide), rfl, rfl, fun _ => rfl, q150, Or.inl rfl⟩
theorem fl_X2_16 : FL "Massclaim$Row" 16 1 1 .int true := ⟨_, _, _, _, "Massclaim$Row", fb_1 1 (by decide), rfl, rfl, fun _ => rfl, q151, Or.inl rfl⟩
theorem fl_X3_9 : FL "Massclaim$Out" 9 2 1 (.array .long) true := ⟨_, _, _, _, "Massclaim$Out", fb_2 1 (by decide), rfl, rfl, fun _ => rfl, q168, Or.inl rfl⟩
theorem fr_J2_48 : FR "java/util/ArrayList" 48 17 2 := ⟨_, _, _, _, "java/util/ArrayList", fb_17 2 (by decide), q138, Or.inl rfl⟩
theorem fr_J2_63 : FR "java/util/ArrayList" 63 17 0 := ⟨_, _, _, _, "java/util/ArrayList", fb_17 0 (by decide), q142, Or.inr q141⟩
theorem fl_J2_63 : FL "java/util/ArrayList" 63 17 0 .int false := ⟨_, _, _, _, "java/util/ArrayList", fb_17 0 (by decide), rfl, rfl, fun q => Bool.noConfusion q, q142, Or.inr q141⟩
theorem fr_J2_9 : FR "java/util/ArrayList" 9 17 1 := ⟨_, _, _, _, "java/util/ArrayList", fb_17 1 (by decide), q135, Or.inl rfl⟩
theorem fl_J2_48 : FL "java/util/ArrayList" 48 17 2 .int false := ⟨_, _, _, _, "java/util/ArrayList", fb_17 2 (by decide), rfl, rfl, fun q => Bool.noConfusion q, q138, Or.inl rfl⟩
theorem fr_X2_10 : FR "Massclaim$Row" 10 1 0 := ⟨_, _, _, _, "Massclaim$Row", fb_1 0 (by decide), q150, Or.inl rfl⟩
theorem wF_X2_20_J2 : WF "Massclaim$Row" 20 "java/util/ArrayList" ⟨"java/util/List", "size", "()I"⟩ yJ2_size cJ2_size 1 (some .int) 0 := ⟨lw_app (lw_in _ [205, 209, 211, 69] (by decide +kernel) (by decide +kernel)) (lw_meth q213), List.mem_of_getElem? (i := 0) rfl, ⟨by decide, by decide⟩, by decide +kernel⟩
theorem wF_X2_56_J2 : WF "Massclaim$Row" 56 "java/util/ArrayList" ⟨"java/util/List", "clear", "()V"⟩ yJ2_clear cJ2_clear 4 none 0 := ⟨lw_app (lw_in _ [215, 218, 220, 69] (by decide +kernel) (by decide +kernel)) (lw_meth q222), List.mem_of_getElem? (i := 1) rfl, ⟨by decide, by decide⟩, by decide +kernel⟩
theorem fr_X1_60 : FR "Massclaim" 60 0 5 := ⟨_, _, _, _, "Massclaim", fb_0 5 (by decide), q233, Or.inl rfl⟩
theorem nl_X1_71 : NL "Massclaim" 71 2 6 := ⟨_, _, _, _, rfl, by decide, in_X3, tyX3_ok, by decide, q159, q160, q70⟩
theorem wIN_X1_73 : WIN "Massclaim" 73 yX3_init cX3_init 1 0 "Massclaim" := ⟨lw_meth q163, q70, q161, q162, rfl, ⟨by decide, by decide⟩, by decide +kernel⟩
theorem fl_X1_74 : FL "Massclaim" 74 0 8 (.object "Massclaim$Out") false := ⟨_, _, _, _, "Massclaim", fb_0 8 (by decide), rfl, rfl, fun q => Bool.noConfusion q, q237, Or.inl rfl⟩
theorem fl_X1_84 : FL "Massclaim" 84 0 9 (.object "Massclaim$Deal") false := ⟨_, _, _, _, "Massclaim", fb_0 9 (by decide), rfl, rfl, fun q => Bool.noConfusion q, q239, Or.inl rfl⟩
theorem fl_X1_88 : FL "Massclaim" 88 0 10 .int false := ⟨_, _, _, _, "Massclaim", fb_0 10 (by decide), rfl, rfl, fun q => Bool.noConfusion q, q241, Or.inl rfl⟩
theorem fl_X1_92 : FL "Massclaim" 92 0 11 .int false := ⟨_, _, _, _, "Massclaim", fb_0 11 (by decide), rfl, rfl, fun q => Bool.noConfusion q, q243, Or.inl rfl⟩
theorem fl_X1_95 : FL "Massclaim" 95 0 12 .int false := ⟨_, _, _, _, "Massclaim", fb_0 12 (by decide), rfl, rfl, fun q => Bool.noConfusion q, q245, Or.inl rfl⟩
theorem fl_X1_99 : FL "Massclaim" 99 0 13 .int false := ⟨_, _, _, _, "Massclaim", fb_0 13 (by decide), rfl, rfl, fun q => Bool.noConfusion q, q247, Or.inl rfl⟩
theorem fl_X1_102 : FL "Massclaim" 102 0 14 .int false := ⟨_, _, _, _, "Massclaim", fb_0 14 (by decide), rfl, rfl, fun q => Bool.noConfusion q, q248, Or.inl rfl⟩
theorem fl_X1_105 : FL "Massclaim" 105 0 15 .int false := ⟨_, _, _, _, "Massclaim", fb_0 15 (by decide), rfl, rfl, fun q => Bool.noConfusion q, q249, Or.inl rfl⟩
theorem fl_X1_108 : FL "Massclaim" 108 0 16 .int false := ⟨_, _, _, _, "Massclaim", fb_0 16 (by decide), rfl, rfl, fun q => Bool.noConfusion q, q250, Or.inl rfl⟩
theorem fl_X1_111 : FL "Massclaim" 111 0 17 .long false := ⟨_, _, _, _, "Massclaim", fb_0 17 (by decide), rfl, rfl, fun q => Bool.noConfusion q, q252, Or.inl rfl⟩
theorem fl_X1_115 : FL "Massclaim" 115 0 18 .int false := ⟨_, _, _, _, "Massclaim", fb_0 18 (by decide), rfl, rfl, fun q => Bool.noConfusion q, q255, Or.inl rfl⟩
theorem fr_X1_42 : FR "Massclaim" 42 0 0 := ⟨_, _, _, _, "Massclaim", fb_0 0 (by decide), q224, Or.inl rfl⟩
theorem wV_X1_81 : WV "Massclaim" 81 yX2_clear cX2_clear 2 (some .int) 0 := ⟨lw_V q200 q201 q202 q66 q203, ⟨by decide, by decide⟩, by decide +kernel⟩
theorem fr_X1_63 : FR "Massclaim" 63 0 6 := ⟨_, _, _, _, "Massclaim", fb_0 6 (by decide), q234, Or.inl rfl⟩
theorem fr_X1_67 : FR "Massclaim" 67 0 7 := ⟨_, _, _, _, "Massclaim", fb_0 7 (by decide), q235, Or.inl rfl⟩
theorem fr_X1_46 : FR "Massclaim" 46 0 1 := ⟨_, _, _, _, "Massclaim", fb_0 1 (by decide), q226, Or.inl rfl⟩
theorem fr_X1_49 : FR "Massclaim" 49 0 2 := ⟨_, _, _, _, "Massclaim", fb_0 2 (by decide), q227, Or.inl rfl⟩
theorem fr_X1_52 : FR "Massclaim" 52 0 3 := ⟨_, _, _, _, "Massclaim", fb_0 3 (by decide), q228, Or.inl rfl⟩
theorem fr_X1_55 : FR "Massclaim" 55 0 4 := ⟨_, _, _, _, "Massclaim", fb_0 4 (by decide), q230, Or.inl rfl⟩
theorem nl_X1_37 : NL "Massclaim" 37 1 2 := ⟨_, _, _, _, rfl, by decide, in_X2, tyX2_ok, by decide, q115, q116, q66⟩
theorem wI_X1_41 : WI "Massclaim" 41 yX2_init cX2_init 2 1 := ⟨lw_meth q119, q66, q117, q118, rfl, ⟨by decide, by decide⟩, by decide +kernel⟩
theorem fl_X1_42 : FL "Massclaim" 42 0 0 (.object "Massclaim$Row") true := ⟨_, _, _, _, "Massclaim", fb_0 0 (by decide), rfl, rfl, fun _ => rfl, q224, Or.inl rfl⟩
theorem fl_X1_46 : FL "Massclaim" 46 0 1 (.object "Massclaim$Row") true := ⟨_, _, _, _, "Massclaim", fb_0 1 (by decide), rfl, rfl, fun _ => rfl, q226, Or.inl rfl⟩
theorem fl_X1_49 : FL "Massclaim" 49 0 2 (.object "Massclaim$Row") true := ⟨_, _, _, _, "Massclaim", fb_0 2 (by decide), rfl, rfl, fun _ => rfl, q227, Or.inl rfl⟩
theorem fl_X1_52 : FL "Massclaim" 52 0 3 (.object "Massclaim$Row") true := ⟨_, _, _, _, "Massclaim", fb_0 3 (by decide), rfl, rfl, fun _ => rfl, q228, Or.inl rfl⟩
theorem fl_X1_55 : FL "Massclaim" 55 0 4 (.object "Massclaim$Row") true := ⟨_, _, _, _, "Massclaim", fb_0 4 (by decide), rfl, rfl, fun _ => rfl, q230, Or.inl rfl⟩
theorem fl_X1_60 : FL "Massclaim" 60 0 5 (.array (.array .int)) true := ⟨_, _, _, _, "Massclaim", fb_0 5 (by decide), rfl, rfl, fun _ => rfl, q233, Or.inl rfl⟩
theorem fl_X1_63 : FL "Massclaim" 63 0 6 (.array .long) true := ⟨_, _, _, _, "Massclaim", fb_0 6 (by decide), rfl, rfl, fun _ => rfl, q234, Or.inl rfl⟩
theorem fl_X1_67 : FL "Massclaim" 67 0 7 (.array .int) true := ⟨_, _, _, _, "Massclaim", fb_0 7 (by decide), rfl, rfl, fun _ => rfl, q235, Or.inl rfl⟩
theorem wV_X1_78 : WV "Massclaim" 78 yX1_restart cX1_restart 4 (some .int) 0 := ⟨lw_V q196 q198 qs0 q65 q199, ⟨by decide, by decide⟩, by decide +kernel⟩
theorem fl_X4_85 : FL "MassclaimModel" 85 3 26 .long false := ⟨_, _, _, _, "MassclaimModel", fb_3 26 (by decide), rfl, rfl, fun q => Bool.noConfusion q, q1866, Or.inl rfl⟩
theorem fl_X4_88 : FL "MassclaimModel" 88 3 27 .long false := ⟨_, _, _, _, "MassclaimModel", fb_3 27 (by decide), rfl, rfl, fun q => Bool.noConfusion q, q1867, Or.inl rfl⟩
theorem fl_X4_91 : FL "MassclaimModel" 91 3 28 .long false := ⟨_, _, _, _, "MassclaimModel", fb_3 28 (by decide), rfl, rfl, fun q => Bool.noConfusion q, q1868, Or.inl rfl⟩
theorem fr_X4_36 : FR "MassclaimModel" 36 3 25 := ⟨_, _, _, _, "MassclaimModel", fb_3 25 (by decide), q1865, Or.inl rfl⟩
theorem fr_X4_26 : FR "MassclaimModel" 26 3 15 := ⟨_, _, _, _, "MassclaimModel", fb_3 15 (by decide), q1855, Or.inl rfl⟩
theorem fl_X4_64 : FL "MassclaimModel" 64 3 16 .int false := ⟨_, _, _, _, "MassclaimModel", fb_3 16 (by decide), rfl, rfl, fun q => Bool.noConfusion q, q1856, Or.inl rfl⟩
theorem fl_X4_67 : FL "MassclaimModel" 67 3 17 .int false := ⟨_, _, _, _, "MassclaimModel", fb_3 17 (by decide), rfl, rfl, fun q => Bool.noConfusion q, q1857, Or.inl rfl⟩
theorem fl_X4_70 : FL "MassclaimModel" 70 3 18 .int false := ⟨_, _, _, _, "MassclaimModel", fb_3 18 (by decide), rfl, rfl, fun q => Bool.noConfusion q, q1858, Or.inl rfl⟩
theorem fl_X4_73 : FL "MassclaimModel" 73 3 19 .int false := ⟨_, _, _, _, "MassclaimModel", fb_3 19 (by decide), rfl, rfl, fun q => Bool.noConfusion q, q1859, Or.inl rfl⟩
theorem fr_X4_30 : FR "MassclaimModel" 30 3 20 := ⟨_, _, _, _, "MassclaimModel", fb_3 20 (by decide), q1860, Or.inl rfl⟩
theorem wV_X4_46 : WV "MassclaimModel" 46 yJ2_clear cJ2_clear 4 none 0 := ⟨lw_V q1838 q220 q2554 q69 q222, ⟨by decide, by decide⟩, by decide +kernel⟩
theorem fr_X4_33 : FR "MassclaimModel" 33 3 21 := ⟨_, _, _, _, "MassclaimModel", fb_3 21 (by decide), q1861, Or.inl rfl⟩
theorem fl_X4_76 : FL "MassclaimModel" 76 3 22 .long false := ⟨_, _, _, _, "MassclaimModel", fb_3 22 (by decide), rfl, rfl, fun q => Bool.noConfusion q, q1862, Or.inl rfl⟩
theorem fl_X4_79 : FL "MassclaimModel" 79 3 23 .long false := ⟨_, _, _, _, "MassclaimModel", fb_3 23 (by decide), rfl, rfl, fun q => Bool.noConfusion q, q1863, Or.inl rfl⟩
theorem fl_X4_82 : FL "MassclaimModel" 82 3 24 .long false := ⟨_, _, _, _, "MassclaimModel", fb_3 24 (by decide), rfl, rfl, fun q => Bool.noConfusion q, q1864, Or.inl rfl⟩
theorem fl_X4_43 : FL "MassclaimModel" 43 3 1 .int false := ⟨_, _, _, _, "MassclaimModel", fb_3 1 (by decide), rfl, rfl, fun q => Bool.noConfusion q, q1841, Or.inl rfl⟩
theorem fr_X4_16 : FR "MassclaimModel" 16 3 2 := ⟨_, _, _, _, "MassclaimModel", fb_3 2 (by decide), q1842, Or.inl rfl⟩
theorem fl_X4_49 : FL "MassclaimModel" 49 3 3 .boolean false := ⟨_, _, _, _, "MassclaimModel", fb_3 3 (by decide), rfl, rfl, fun q => Bool.noConfusion q, q1843, Or.inl rfl⟩
theorem fr_X4_20 : FR "MassclaimModel" 20 3 7 := ⟨_, _, _, _, "MassclaimModel", fb_3 7 (by decide), q1847, Or.inl rfl⟩
theorem fr_X4_23 : FR "MassclaimModel" 23 3 8 := ⟨_, _, _, _, "MassclaimModel", fb_3 8 (by decide), q1848, Or.inl rfl⟩
theorem fl_X4_53 : FL "MassclaimModel" 53 3 9 .int false := ⟨_, _, _, _, "MassclaimModel", fb_3 9 (by decide), rfl, rfl, fun q => Bool.noConfusion q, q1849, Or.inl rfl⟩
theorem fl_X4_56 : FL "MassclaimModel" 56 3 10 .long false := ⟨_, _, _, _, "MassclaimModel", fb_3 10 (by decide), rfl, rfl, fun q => Bool.noConfusion q, q1850, Or.inl rfl⟩
theorem fl_X4_60 : FL "MassclaimModel" 60 3 14 .boolean false := ⟨_, _, _, _, "MassclaimModel", fb_3 14 (by decide), rfl, rfl, fun q => Bool.noConfusion q, q1854, Or.inl rfl⟩
theorem nl_X4_13 : NL "MassclaimModel" 13 17 3 := ⟨_, _, _, _, rfl, by decide, in_J2, tyJ2_ok, by decide, q1832, q122, q69⟩
theorem wI_X4_15 : WI "MassclaimModel" 15 yJ2_init cJ2_init 1 0 := ⟨lw_meth q125, q69, q1833, q124, rfl, ⟨by decide, by decide⟩, by decide +kernel⟩
theorem fl_X4_16 : FL "MassclaimModel" 16 3 2 (.object "java/util/ArrayList") true := ⟨_, _, _, _, "MassclaimModel", fb_3 2 (by decide), rfl, rfl, fun _ => rfl, q1842, Or.inl rfl⟩
theorem fl_X4_20 : FL "MassclaimModel" 20 3 7 (.object "java/util/ArrayList") true := ⟨_, _, _, _, "MassclaimModel", fb_3 7 (by decide), rfl, rfl, fun _ => rfl, q1847, Or.inl rfl⟩
theorem fl_X4_23 : FL "MassclaimModel" 23 3 8 (.object "java/util/ArrayList") true := ⟨_, _, _, _, "MassclaimModel", fb_3 8 (by decide), rfl, rfl, fun _ => rfl, q1848, Or.inl rfl⟩
theorem fl_X4_26 : FL "MassclaimModel" 26 3 15 (.array .int) true := ⟨_, _, _, _, "MassclaimModel", fb_3 15 (by decide), rfl, rfl, fun _ => rfl, q1855, Or.inl rfl⟩
theorem fl_X4_30 : FL "MassclaimModel" 30 3 20 (.object "java/util/ArrayList") true := ⟨_, _, _, _, "MassclaimModel", fb_3 20 (by decide), rfl, rfl, fun _ => rfl, q1860, Or.inl rfl⟩
theorem fl_X4_33 : FL "MassclaimModel" 33 3 21 (.object "java/util/ArrayList") true := ⟨_, _, _, _, "MassclaimModel", fb_3 21 (by decide), rfl, rfl, fun _ => rfl, q1861, Or.inl rfl⟩
theorem fl_X4_36 : FL "MassclaimModel" 36 3 25 (.array .long) true := ⟨_, _, _, _, "MassclaimModel", fb_3 25 (by decide), rfl, rfl, fun _ => rfl, q1865, Or.inl rfl⟩
theorem wV_X4_40 : WV "MassclaimModel" 40 yX4_fresh cX4_fresh 3 none 0 := ⟨lw_V q1834 q1836 qs29 q71 q1837, ⟨by decide, by decide⟩, by decide +kernel⟩
theorem fl_X4_1 : FL "MassclaimModel" 1 3 0 .int false := ⟨_, _, _, _, "MassclaimModel", fb_3 0 (by decide), rfl, rfl, fun q => Bool.noConfusion q, q1840, Or.inl rfl⟩
theorem wV_X4_94 : WV "MassclaimModel" 94 yJ2_size cJ2_size 1 (some .int) 0 := ⟨lw_V q1932 q211 q2555 q69 q213, ⟨by decide, by decide⟩, by decide +kernel⟩
theorem nt_X1_7 : NT "Massclaim" 7 9 902 ["java/lang/RuntimeException", "java/lang/Exception"] := ⟨by decide +kernel, by decide +kernel, q461, q75, nt_in [72, 483, 492, 498, 501, 503, 484, 485, 113, 114, 486, 491, 499, 516, 473, 517, 475, 518, 477, 487, 489, 479, 505, 506, 507, 508, 464, 508, 509, 510, 511, 466, 511, 512, 513, 484, 468, 504, 462, 463, 470, 471, 472, 474, 476, 478, 482, 481, 480] (by decide +kernel) (by decide +kernel), by decide +kernel⟩
theorem nt_X1_1 : NT "Massclaim" 1 3 901 ["java/lang/RuntimeException", "java/lang/Exception"] := ⟨by decide +kernel, by decide +kernel, q535, q76, nt_in [72, 483, 492, 498, 501, 503, 484, 485, 113, 114, 486, 491, 499, 516, 473, 517, 475, 518, 477, 487, 489, 479, 545, 546, 547, 508, 464, 508, 509, 510, 511, 466, 511, 512, 513, 484, 468, 544, 536, 537, 538, 497, 539, 540, 541, 542, 482, 481, 543] (by decide +kernel) (by decide +kernel), by decide +kernel⟩
theorem wS_J8_105 : WS "java/util/Objects" 105 yJ9_checkIndex cJ9_checkIndex 3 (some .int) 3 := ⟨lw_S q395 q396 q78 q397, ⟨by decide, by decide⟩, by decide +kernel⟩
theorem wS_J2_118 : WS "java/util/ArrayList" 118 yJ8_checkIndex cJ8_checkIndex 2 (some .int) 2 := ⟨lw_S q392 q393 q77 q394, ⟨by decide, by decide⟩, by decide +kernel⟩
theorem wV_J2_123 : WV "java/util/ArrayList" 123 yJ2_elementData cJ2_elementData 2 (some (.object "java/lang/Object")) 1 := ⟨lw_V q398 q399 q400 q69 q401, ⟨by decide, by decide⟩, by decide +kernel⟩
theorem wSN_X2_26 : WSN "Massclaim$Row" 26 yX1_isIn cX1_isIn 6 (some .boolean) 3 "Massclaim" := ⟨lw_meth q457, q65, q531, q456, ⟨by decide, by decide⟩, by decide +kernel⟩
theorem wSN_X2_32 : WSN "Massclaim$Row" 32 yX1_requireIndex cX1_requireIndex 1 none 1 "Massclaim" := ⟨lw_meth q534, q65, q532, q533, ⟨by decide, by decide⟩, by decide +kernel⟩
theorem wF_X2_36_J2 : WF "Massclaim$Row" 36 "java/util/ArrayList" ⟨"java/util/List", "get", "(I)Ljava/lang/Object;"⟩ yJ2_get cJ2_get 2 (some (.object "java/lang/Object")) 1 := ⟨lw_app (lw_in _ [551, 387, 389, 69] (by decide +kernel) (by decide +kernel)) (lw_meth q391), List.mem_of_getElem? (i := 5) rfl, ⟨by decide, by decide⟩, by decide +kernel⟩
theorem fr_X5_3 : FR "Massclaim$Person" 3 4 21 := ⟨_, _, _, _, "Massclaim$Person", fb_4 21 (by decide), q643, Or.inl rfl⟩
theorem fn_X5_55 : FN "Massclaim$Person" 55 0 10 .int false := ⟨_, _, _, _, "Massclaim", fb_0 10 (by decide), rfl, rfl, q240⟩
theorem fr_X5_45 : FR "Massclaim$Person" 45 4 3 := ⟨_, _, _, _, "Massclaim$Person", fb_4 3 (by decide), q607, Or.inl rfl⟩
theorem fn_X5_58 : FN "Massclaim$Person" 58 0 11 .int false := ⟨_, _, _, _, "Massclaim", fb_0 11 (by decide), rfl, rfl, q242⟩
theorem fr_X5_42 : FR "Massclaim$Person" 42 4 2 := ⟨_, _, _, _, "Massclaim$Person", fb_4 2 (by decide), q604, Or.inl rfl⟩
theorem fr_X5_48 : FR "Massclaim$Person" 48 4 4 := ⟨_, _, _, _, "Massclaim$Person", fb_4 4 (by decide), q608, Or.inl rfl⟩
theorem fn_X5_61 : FN "Massclaim$Person" 61 0 12 .int false := ⟨_, _, _, _, "Massclaim", fb_0 12 (by decide), rfl, rfl, q244⟩
theorem wV_X5_64 : WV "Massclaim$Person" 64 yX5_fits cX5_fits 1 (some .boolean) 0 := ⟨lw_V q557 q558 q559 q80 q560, ⟨by decide, by decide⟩, by decide +kernel⟩
theorem fr_X5_68 : FR "Massclaim$Person" 68 4 8 := ⟨_, _, _, _, "Massclaim$Person", fb_4 8 (by decide), q619, Or.inl rfl⟩
theorem fr_X5_39 : FR "Massclaim$Person" 39 4 1 := ⟨_, _, _, _, "Massclaim$Person", fb_4 1 (by decide), q603, Or.inl rfl⟩
theorem fr_X5_51 : FR "Massclaim$Person" 51 4 20 := ⟨_, _, _, _, "Massclaim$Person", fb_4 20 (by decide), q641, Or.inl rfl⟩
theorem fr_X5_121 : FR "Massclaim$Person" 121 4 16 := ⟨_, _, _, _, "Massclaim$Person", fb_4 16 (by decide), q632, Or.inl rfl⟩
theorem fl_X5_121 : FL "Massclaim$Person" 121 4 16 .long false := ⟨_, _, _, _, "Massclaim$Person", fb_4 16 (by decide), rfl, rfl, fun q => Bool.noConfusion q, q632, Or.inl rfl⟩
theorem fn_X5_124 : FN "Massclaim$Person" 124 0 8 (.object "Massclaim$Out") false := ⟨_, _, _, _, "Massclaim", fb_0 8 (by decide), rfl, rfl, q238⟩
theorem fn_X5_128 : FN "Massclaim$Person" 128 2 3 .long false := ⟨_, _, _, _, "Massclaim", fb_2 3 (by decide), rfl, rfl, q175⟩
theorem wV_X5_133 : WV "Massclaim$Person" 133 yX5_isDead cX5_isDead 1 (some .boolean) 0 := ⟨lw_V q570 q571 q572 q80 q573, ⟨by decide, by decide⟩, by decide +kernel⟩
theorem fr_X14_26 : FR "Massclaim$Yearly" 26 13 1 := ⟨_, _, _, _, "Massclaim$Yearly", fb_13 1 (by decide), q1722, Or.inl rfl⟩
theorem fr_X14_3 : FR "Massclaim$Yearly" 3 13 3 := ⟨_, _, _, _, "Massclaim$Yearly", fb_13 3 (by decide), q1724, Or.inl rfl⟩
theorem fn_X14_15 : FN "Massclaim$Yearly" 15 0 18 .int false := ⟨_, _, _, _, "Massclaim", fb_0 18 (by decide), rfl, rfl, q253⟩
theorem fr_X14_19 : FR "Massclaim$Yearly" 19 13 2 := ⟨_, _, _, _, "Massclaim$Yearly", fb_13 2 (by decide), q1723, Or.inl rfl⟩
theorem fr_X14_22 : FR "Massclaim$Yearly" 22 13 0 := ⟨_, _, _, _, "Massclaim$Yearly", fb_13 0 (by decide), q1720, Or.inl rfl⟩
theorem fl_X14_22 : FL "Massclaim$Yearly" 22 13 0 .long false := ⟨_, _, _, _, "Massclaim$Yearly", fb_13 0 (by decide), rfl, rfl, fun q => Bool.noConfusion q, q1720, Or.inl rfl⟩
theorem fl_X14_26 : FL "Massclaim$Yearly" 26 13 1 .int false := ⟨_, _, _, _, "Massclaim$Yearly", fb_13 1 (by decide), rfl, rfl, fun q => Bool.noConfusion q, q1722, Or.inl rfl⟩
theorem fr_X5_32 : FR "Massclaim$Person" 32 4 19 := ⟨_, _, _, _, "Massclaim$Person", fb_4 19 (by decide), q639, Or.inl rfl⟩
theorem wF_X5_110_J2 : WF "Massclaim$Person" 110 "java/util/ArrayList" ⟨"java/util/List", "size", "()I"⟩ yJ2_size cJ2_size 1 (some .int) 0 := ⟨lw_app (lw_in _ [382, 209, 211, 69] (by decide +kernel) (by decide +kernel)) (lw_meth q213), List.mem_of_getElem? (i := 0) rfl, ⟨by decide, by decide⟩, by decide +kernel⟩
theorem wF_X5_111_J2 : WF "Massclaim$Person" 111 "java/util/ArrayList" ⟨"java/util/List", "get", "(I)Ljava/lang/Object;"⟩ yJ2_get cJ2_get 2 (some (.object "java/lang/Object")) 1 := ⟨lw_app (lw_in _ [384, 387, 389, 69] (by decide +kernel) (by decide +kernel)) (lw_meth q391), List.mem_of_getElem? (i := 5) rfl, ⟨by decide, by decide⟩, by decide +kernel⟩
theorem wV_X5_187 : WV "Massclaim$Person" 187 yX14_isDue cX14_isDue 1 (some .boolean) 0 := ⟨lw_V q574 q575 q576 q102 q577, ⟨by decide, by decide⟩, by decide +kernel⟩
theorem wV_X5_162 : WV "Massclaim$Person" 162 yX14_comes cX14_comes 3 (some .long) 0 := ⟨lw_V q578 q579 q580 q102 q581, ⟨by decide, by decide⟩, by decide +kernel⟩
theorem wV_X5_136 : WV "Massclaim$Person" 136 yX5_gets cX5_gets 6 none 1 := ⟨lw_V q566 q567 q568 q80 q569, ⟨by decide, by decide⟩, by decide +kernel⟩
theorem fr_X5_147 : FR "Massclaim$Person" 147 4 17 := ⟨_, _, _, _, "Massclaim$Person", fb_4 17 (by decide), q634, Or.inl rfl⟩
theorem fn_X5_140 : FN "Massclaim$Person" 140 0 18 .int false := ⟨_, _, _, _, "Massclaim", fb_0 18 (by decide), rfl, rfl, q256⟩
theorem wV_X5_143 : WV "Massclaim$Person" 143 yX5_age cX5_age 2 (some .int) 1 := ⟨lw_V q565 q417 q418 q80 q419, ⟨by decide, by decide⟩, by decide +kernel⟩
theorem fl_X5_147 : FL "Massclaim$Person" 147 4 17 .long false := ⟨_, _, _, _, "Massclaim$Person", fb_4 17 (by decide), rfl, rfl, fun q => Bool.noConfusion q, q634, Or.inl rfl⟩
theorem fn_X1_157 : FN "Massclaim" 157 11 4 .int false := ⟨_, _, _, _, "Massclaim", fb_11 4 (by decide), rfl, rfl, q1552⟩
theorem wV_X1_135 : WV "Massclaim" 135 yX2_size cX2_size 1 (some .int) 0 := ⟨lw_V q442 q443 q444 q66 q445, ⟨by decide, by decide⟩, by decide +kernel⟩
theorem wV_X1_136 : WV "Massclaim" 136 yX2_at cX2_at 2 (some (.object "Massclaim$Numbered")) 1 := ⟨lw_V q527 q528 q529 q66 q530, ⟨by decide, by decide⟩, by decide +kernel⟩
theorem fr_X1_115 : FR "Massclaim" 115 0 18 := ⟨_, _, _, _, "Massclaim", fb_0 18 (by decide), q255, Or.inl rfl⟩
theorem fn_X1_160 : FN "Massclaim" 160 11 8 .int false := ⟨_, _, _, _, "Massclaim", fb_11 8 (by decide), rfl, rfl, q1560⟩
theorem wV_X1_152 : WV "Massclaim" 152 yX5_looks cX5_looks 3 none 0 := ⟨lw_V q561 q562 q563 q80 q564, ⟨by decide, by decide⟩, by decide +kernel⟩
theorem fn_X1_142 : FN "Massclaim" 142 4 7 .int false := ⟨_, _, _, _, "Massclaim", fb_4 7 (by decide), rfl, rfl, q618⟩
theorem fn_X1_145 : FN "Massclaim" 145 4 5 .int false := ⟨_, _, _, _, "Massclaim", fb_4 5 (by decide), rfl, rfl, q613⟩
theorem wV_X1_148 : WV "Massclaim" 148 yX5_isMember cX5_isMember 1 (some .boolean) 0 := ⟨lw_V q553 q554 q555 q80 q556, ⟨by decide, by decide⟩, by decide +kernel⟩
theorem wS_X1_131 : WS "Massclaim" 131 yX1_requireArgument cX1_requireArgument 1 none 1 := ⟨lw_S q458 q459 q65 q460, ⟨by decide, by decide⟩, by decide +kernel⟩
theorem wS_X1_127 : WS "Massclaim" 127 yX1_isIn cX1_isIn 6 (some .boolean) 3 := ⟨lw_S q455 q456 q65 q457, ⟨by decide, by decide⟩, by decide +kernel⟩
theorem wV_X0_7 : WV "MassclaimLaw" 7 yX1_goOn cX1_goOn 5 (some .int) 1 := ⟨lw_V q450 q451 q452 q65 q453, ⟨by decide, by decide⟩, by decide +kernel⟩
theorem fr_X4_49 : FR "MassclaimModel" 49 3 3 := ⟨_, _, _, _, "MassclaimModel", fb_3 3 (by decide), q1843, Or.inl rfl⟩
theorem fr_X4_213 : FR "MassclaimModel" 213 3 4 := ⟨_, _, _, _, "MassclaimModel", fb_3 4 (by decide), q1844, Or.inl rfl⟩
theorem fr_X4_180 : FR "MassclaimModel" 180 5 2 := ⟨_, _, _, _, "MassclaimModel$Person", fb_5 2 (by decide), q1990, Or.inl rfl⟩
theorem fr_X4_216 : FR "MassclaimModel" 216 3 5 := ⟨_, _, _, _, "MassclaimModel", fb_3 5 (by decide), q1845, Or.inl rfl⟩
theorem fr_X4_179 : FR "MassclaimModel" 179 5 1 := ⟨_, _, _, _, "MassclaimModel$Person", fb_5 1 (by decide), q1989, Or.inl rfl⟩
theorem fr_X4_183 : FR "MassclaimModel" 183 5 3 := ⟨_, _, _, _, "MassclaimModel$Person", fb_5 3 (by decide), q1991, Or.inl rfl⟩
theorem fr_X4_219 : FR "MassclaimModel" 219 3 6 := ⟨_, _, _, _, "MassclaimModel", fb_3 6 (by decide), q1846, Or.inl rfl⟩
theorem wV_X4_222 : WV "MassclaimModel" 222 yX4_fits cX4_fits 2 (some .boolean) 1 := ⟨lw_V q1951 q1953 qs32 q71 q1954, ⟨by decide, by decide⟩, by decide +kernel⟩
theorem fr_X4_225 : FR "MassclaimModel" 225 5 10 := ⟨_, _, _, _, "MassclaimModel$Person", fb_5 10 (by decide), q2003, Or.inl rfl⟩
theorem fr_X6_36 : FR "MassclaimModel$Person" 36 5 6 := ⟨_, _, _, _, "MassclaimModel$Person", fb_5 6 (by decide), q1995, Or.inl rfl⟩
theorem fr_X6_39 : FR "MassclaimModel$Person" 39 5 0 := ⟨_, _, _, _, "MassclaimModel$Person", fb_5 0 (by decide), q1987, Or.inl rfl⟩
theorem wS_X6_42 : WS "MassclaimModel$Person" 42 yJ10_floorDiv cJ10_floorDiv 3 (some .int) 2 := ⟨lw_S q1968 q1969 q79 q1970, ⟨by decide, by decide⟩, by decide +kernel⟩
theorem fr_X4_150 : FR "MassclaimModel" 150 5 21 := ⟨_, _, _, _, "MassclaimModel$Person", fb_5 21 (by decide), q2016, Or.inl rfl⟩
theorem wV_X4_108 : WV "MassclaimModel" 108 yJ2_get cJ2_get 2 (some (.object "java/lang/Object")) 1 := ⟨lw_V q1945 q389 q2556 q69 q391, ⟨by decide, by decide⟩, by decide +kernel⟩
theorem fr_X4_155 : FR "MassclaimModel" 155 14 1 := ⟨_, _, _, _, "MassclaimModel$Row", fb_14 1 (by decide), q2454, Or.inl rfl⟩
theorem fr_X4_43 : FR "MassclaimModel" 43 3 1 := ⟨_, _, _, _, "MassclaimModel", fb_3 1 (by decide), q1841, Or.inl rfl⟩
theorem fr_X4_158 : FR "MassclaimModel" 158 14 2 := ⟨_, _, _, _, "MassclaimModel$Row", fb_14 2 (by decide), q2456, Or.inl rfl⟩
theorem fr_X4_161 : FR "MassclaimModel" 161 14 3 := ⟨_, _, _, _, "MassclaimModel$Row", fb_14 3 (by decide), q2457, Or.inl rfl⟩
theorem fl_X4_161 : FL "MassclaimModel" 161 14 3 .int false := ⟨_, _, _, _, "MassclaimModel$Row", fb_14 3 (by decide), rfl, rfl, fun q => Bool.noConfusion q, q2457, Or.inl rfl⟩
theorem fr_X4_164 : FR "MassclaimModel" 164 14 0 := ⟨_, _, _, _, "MassclaimModel$Row", fb_14 0 (by decide), q2452, Or.inl rfl⟩
theorem fl_X4_164 : FL "MassclaimModel" 164 14 0 .long false := ⟨_, _, _, _, "MassclaimModel$Row", fb_14 0 (by decide), rfl, rfl, fun q => Bool.noConfusion q, q2452, Or.inl rfl⟩
theorem fl_X4_155 : FL "MassclaimModel" 155 14 1 .int false := ⟨_, _, _, _, "MassclaimModel$Row", fb_14 1 (by decide), rfl, rfl, fun q => Bool.noConfusion q, q2454, Or.inl rfl⟩
theorem fr_X4_147 : FR "MassclaimModel" 147 5 18 := ⟨_, _, _, _, "MassclaimModel$Person", fb_5 18 (by decide), q2012, Or.inl rfl⟩
theorem fl_X4_147 : FL "MassclaimModel" 147 5 18 .long false := ⟨_, _, _, _, "MassclaimModel$Person", fb_5 18 (by decide), rfl, rfl, fun q => Bool.noConfusion q, q2012, Or.inl rfl⟩
theorem wV_X4_136 : WV "MassclaimModel" 136 yX6_lives cX6_lives 1 (some .boolean) 0 := ⟨lw_V q1960 q1961 q1962 q85 q1963, ⟨by decide, by decide⟩, by decide +kernel⟩
theorem fr_X4_140 : FR "MassclaimModel" 140 5 19 := ⟨_, _, _, _, "MassclaimModel$Person", fb_5 19 (by decide), q2013, Or.inl rfl⟩
theorem wV_X4_143 : WV "MassclaimModel" 143 yX6_age cX6_age 2 (some .int) 1 := ⟨lw_V q1964 q1965 q1966 q85 q1967, ⟨by decide, by decide⟩, by decide +kernel⟩
theorem fl_X4_140 : FL "MassclaimModel" 140 5 19 .long false := ⟨_, _, _, _, "MassclaimModel$Person", fb_5 19 (by decide), rfl, rfl, fun q => Bool.noConfusion q, q2013, Or.inl rfl⟩
theorem wV_X4_132 : WV "MassclaimModel" 132 yX4_free cX4_free 6 none 1 := ⟨lw_V q1956 q1958 qs33 q71 q1959, ⟨by decide, by decide⟩, by decide +kernel⟩
theorem fl_X4_126 : FL "MassclaimModel" 126 12 3 .int false := ⟨_, _, _, _, "MassclaimModel$Claim", fb_12 3 (by decide), rfl, rfl, fun q => Bool.noConfusion q, q2319, Or.inl rfl⟩
theorem fr_X4_126 : FR "MassclaimModel" 126 12 3 := ⟨_, _, _, _, "MassclaimModel$Claim", fb_12 3 (by decide), q2319, Or.inl rfl⟩
theorem fr_X4_129 : FR "MassclaimModel" 129 12 6 := ⟨_, _, _, _, "MassclaimModel$Claim", fb_12 6 (by decide), q2322, Or.inl rfl⟩
theorem fl_X4_114 : FL "MassclaimModel" 114 5 11 .int false := ⟨_, _, _, _, "MassclaimModel$Person", fb_5 11 (by decide), rfl, rfl, fun q => Bool.noConfusion q, q2004, Or.inl rfl⟩
theorem fr_X4_114 : FR "MassclaimModel" 114 5 11 := ⟨_, _, _, _, "MassclaimModel$Person", fb_5 11 (by decide), q2004, Or.inl rfl⟩
theorem fr_X4_117 : FR "MassclaimModel" 117 5 4 := ⟨_, _, _, _, "MassclaimModel$Person", fb_5 4 (by decide), q1992, Or.inl rfl⟩
theorem wV_X4_120 : WV "MassclaimModel" 120 yX4_isIn cX4_isIn 2 (some .boolean) 1 := ⟨lw_V q1947 q1949 qs31 q71 q1950, ⟨by decide, by decide⟩, by decide +kernel⟩
theorem wV_X4_104 : WV "MassclaimModel" 104 yX4_isGood cX4_isGood 3 (some .boolean) 2 := ⟨lw_V q1941 q1943 qs30 q71 q1944, ⟨by decide, by decide⟩, by decide +kernel⟩
theorem wS_X4_100 : WS "MassclaimModel" 100 yX4_isWithin cX4_isWithin 6 (some .boolean) 3 := ⟨lw_S q1938 q1939 q71 q1940, ⟨by decide, by decide⟩, by decide +kernel⟩
theorem fr_X4_1 : FR "MassclaimModel" 1 3 0 := ⟨_, _, _, _, "MassclaimModel", fb_3 0 (by decide), q1840, Or.inl rfl⟩
theorem fl_X5_3 : FL "Massclaim$Person" 3 4 21 (.object "Massclaim") true := ⟨_, _, _, _, "Massclaim$Person", fb_4 21 (by decide), rfl, rfl, fun _ => rfl, q643, Or.inl rfl⟩
theorem fl_X5_15 : FL "Massclaim$Person" 15 4 6 .int false := ⟨_, _, _, _, "Massclaim$Person", fb_4 6 (by decide), rfl, rfl, fun q => Bool.noConfusion q, q614, Or.inl rfl⟩
theorem fl_X5_19 : FL "Massclaim$Person" 19 4 9 .boolean false := ⟨_, _, _, _, "Massclaim$Person", fb_4 9 (by decide), rfl, rfl, fun q => Bool.noConfusion q, q621, Or.inl rfl⟩
theorem fl_X5_23 : FL "Massclaim$Person" 23 4 10 .int false := ⟨_, _, _, _, "Massclaim$Person", fb_4 10 (by decide), rfl, rfl, fun q => Bool.noConfusion q, q623, Or.inl rfl⟩
theorem fl_X5_26 : FL "Massclaim$Person" 26 4 13 .int false := ⟨_, _, _, _, "Massclaim$Person", fb_4 13 (by decide), rfl, rfl, fun q => Bool.noConfusion q, q627, Or.inl rfl⟩
theorem nl_X5_29 : NL "Massclaim$Person" 29 17 3 := ⟨_, _, _, _, rfl, by decide, in_J2, tyJ2_ok, by decide, q599, q122, q69⟩
theorem wI_X5_31 : WI "Massclaim$Person" 31 yJ2_init cJ2_init 1 0 := ⟨lw_meth q125, q69, q600, q124, rfl, ⟨by decide, by decide⟩, by decide +kernel⟩
theorem fl_X5_32 : FL "Massclaim$Person" 32 4 19 (.object "java/util/List") true := ⟨_, _, _, _, "Massclaim$Person", fb_4 19 (by decide), rfl, rfl, fun _ => rfl, q639, Or.inl rfl⟩
theorem fl_X5_36 : FL "Massclaim$Person" 36 4 0 .int true := ⟨_, _, _, _, "Massclaim$Person", fb_4 0 (by decide), rfl, rfl, fun _ => rfl, q601, Or.inl rfl⟩
theorem fl_X5_39 : FL "Massclaim$Person" 39 4 1 .int true := ⟨_, _, _, _, "Massclaim$Person", fb_4 1 (by decide), rfl, rfl, fun _ => rfl, q603, Or.inl rfl⟩
theorem fl_X5_42 : FL "Massclaim$Person" 42 4 2 .int true := ⟨_, _, _, _, "Massclaim$Person", fb_4 2 (by decide), rfl, rfl, fun _ => rfl, q604, Or.inl rfl⟩
theorem fl_X5_45 : FL "Massclaim$Person" 45 4 3 .int true := ⟨_, _, _, _, "Massclaim$Person", fb_4 3 (by decide), rfl, rfl, fun _ => rfl, q607, Or.inl rfl⟩
theorem fl_X5_48 : FL "Massclaim$Person" 48 4 4 .int true := ⟨_, _, _, _, "Massclaim$Person", fb_4 4 (by decide), rfl, rfl, fun _ => rfl, q608, Or.inl rfl⟩
theorem fr_X2_16 : FR "Massclaim$Row" 16 1 1 := ⟨_, _, _, _, "Massclaim$Row", fb_1 1 (by decide), q151, Or.inl rfl⟩
theorem nt_X1_10 : NT "Massclaim" 10 12 903 ["java/lang/RuntimeException", "java/lang/Exception"] := ⟨by decide +kernel, by decide +kernel, q700, q81, nt_in [72, 483, 492, 498, 501, 503, 484, 485, 113, 114, 486, 491, 499, 516, 473, 517, 475, 518, 477, 487, 489, 479, 710, 711, 712, 508, 464, 508, 509, 510, 511, 466, 511, 512, 513, 484, 468, 709, 701, 702, 703, 496, 704, 705, 706, 707, 482, 481, 708] (by decide +kernel) (by decide +kernel), by decide +kernel⟩
theorem wS_J12_194 : WS "jdk/internal/util/ArraysSupport" 194 yJ10_max cJ10_max 2 (some .int) 2 := ⟨lw_S q739 q740 q79 q741, ⟨by decide, by decide⟩, by decide +kernel⟩
theorem wS_J13_304 : WS "java/util/Arrays" 304 yJ10_min_2 cJ10_min_2 2 (some .int) 2 := ⟨lw_S q784 q785 q79 q786, ⟨by decide, by decide⟩, by decide +kernel⟩
theorem wS_J13_300 : WS "java/util/Arrays" 300 yJ13_copyOf_2 cJ13_copyOf_2 4 (some (.array (.object "java/lang/Object"))) 3 := ⟨lw_S q778 q779 q83 q780, ⟨by decide, by decide⟩, by decide +kernel⟩
theorem wS_J2_73 : WS "java/util/ArrayList" 73 yJ12_newLength cJ12_newLength 4 (some .int) 3 := ⟨lw_S q736 q737 q82 q738, ⟨by decide, by decide⟩, by decide +kernel⟩
theorem wS_J2_66 : WS "java/util/ArrayList" 66 yJ13_copyOf cJ13_copyOf 2 (some (.array (.object "java/lang/Object"))) 2 := ⟨lw_S q746 q747 q83 q748, ⟨by decide, by decide⟩, by decide +kernel⟩
theorem wS_J2_79 : WS "java/util/ArrayList" 79 yJ10_max cJ10_max 2 (some .int) 2 := ⟨lw_S q790 q740 q79 q741, ⟨by decide, by decide⟩, by decide +kernel⟩
theorem wV_J2_69 : WV "java/util/ArrayList" 69 yJ2_grow_2 cJ2_grow_2 4 (some (.array (.object "java/lang/Object"))) 1 := ⟨lw_V q732 q734 qs6 q69 q735, ⟨by decide, by decide⟩, by decide +kernel⟩
theorem wV_J2_129 : WV "java/util/ArrayList" 129 yJ2_grow cJ2_grow 1 (some (.array (.object "java/lang/Object"))) 0 := ⟨lw_V q728 q730 qs5 q69 q731, ⟨by decide, by decide⟩, by decide +kernel⟩
theorem wV_J2_131 : WV "java/util/ArrayList" 131 yJ2_add_2 cJ2_add_2 4 none 3 := ⟨lw_V q724 q726 qs4 q69 q727, ⟨by decide, by decide⟩, by decide +kernel⟩
theorem fr_X5_36 : FR "Massclaim$Person" 36 4 0 := ⟨_, _, _, _, "Massclaim$Person", fb_4 0 (by decide), q601, Or.inl rfl⟩
theorem fr_X7_7 : FR "Massclaim$Subclass" 7 6 0 := ⟨_, _, _, _, "Massclaim$Subclass", fb_6 0 (by decide), q913, Or.inl rfl⟩
theorem fr_X8_7 : FR "Massclaim$Defendant" 7 7 0 := ⟨_, _, _, _, "Massclaim$Defendant", fb_7 0 (by decide), q1334, Or.inl rfl⟩
theorem fr_X12_29 : FR "Massclaim$Claim" 29 11 0 := ⟨_, _, _, _, "Massclaim$Claim", fb_11 0 (by decide), q1544, Or.inl rfl⟩
theorem fr_X16_7 : FR "Massclaim$Lien" 7 15 0 := ⟨_, _, _, _, "Massclaim$Lien", fb_15 0 (by decide), q1753, Or.inl rfl⟩
theorem wV_X2_42 : WV "Massclaim$Row" 42 yX2_hasRoom cX2_hasRoom 1 (some .boolean) 0 := ⟨lw_V q693 q694 q695 q66 q696, ⟨by decide, by decide⟩, by decide +kernel⟩
theorem wSN_X2_46 : WSN "Massclaim$Row" 46 yX1_requireState cX1_requireState 1 none 1 "Massclaim" := ⟨lw_meth q699, q65, q697, q698, ⟨by decide, by decide⟩, by decide +kernel⟩
theorem wF_X2_49_J2 : WF "Massclaim$Row" 49 "java/util/ArrayList" ⟨"java/util/List", "add", "(Ljava/lang/Object;)Z"⟩ yJ2_add cJ2_add 2 (some .boolean) 1 := ⟨lw_app (lw_in _ [716, 719, 721, 69] (by decide +kernel) (by decide +kernel)) (lw_meth q723), List.mem_of_getElem? (i := 6) rfl, ⟨by decide, by decide⟩, by decide +kernel⟩
theorem wF_X2_53_X5 : WF "Massclaim$Row" 53 "Massclaim$Person" ⟨"Massclaim$Numbered", "number", "()I"⟩ yX5_number cX5_number 1 (some .int) 0 := ⟨lw_app (lw_in _ [793, 815, 817, 80] (by decide +kernel) (by decide +kernel)) (lw_meth q819), List.mem_of_getElem? (i := 10) rfl, ⟨by decide, by decide⟩, by decide +kernel⟩
theorem wF_X2_53_X7 : WF "Massclaim$Row" 53 "Massclaim$Subclass" ⟨"Massclaim$Numbered", "number", "()I"⟩ yX7_number cX7_number 1 (some .int) 0 := ⟨lw_app (lw_in _ [793, 821, 823, 89] (by decide +kernel) (by decide +kernel)) (lw_meth q825), List.mem_of_getElem? (i := 11) rfl, ⟨by decide, by decide⟩, by decide +kernel⟩
theorem wF_X2_53_X8 : WF "Massclaim$Row" 53 "Massclaim$Defendant" ⟨"Massclaim$Numbered", "number", "()I"⟩ yX8_number cX8_number 1 (some .int) 0 := ⟨lw_app (lw_in _ [793, 803, 805, 96] (by decide +kernel) (by decide +kernel)) (lw_meth q807), List.mem_of_getElem? (i := 8) rfl, ⟨by decide, by decide⟩, by decide +kernel⟩
theorem wF_X2_53_X12 : WF "Massclaim$Row" 53 "Massclaim$Claim" ⟨"Massclaim$Numbered", "number", "()I"⟩ yX12_number cX12_number 1 (some .int) 0 := ⟨lw_app (lw_in _ [793, 797, 799, 100] (by decide +kernel) (by decide +kernel)) (lw_meth q801), List.mem_of_getElem? (i := 7) rfl, ⟨by decide, by decide⟩, by decide +kernel⟩
theorem wF_X2_53_X16 : WF "Massclaim$Row" 53 "Massclaim$Lien" ⟨"Massclaim$Numbered", "number", "()I"⟩ yX16_number cX16_number 1 (some .int) 0 := ⟨lw_app (lw_in _ [793, 809, 811, 104] (by decide +kernel) (by decide +kernel)) (lw_meth q813), List.mem_of_getElem? (i := 9) rfl, ⟨by decide, by decide⟩, by decide +kernel⟩
theorem nl_X1_140 : NL "Massclaim" 140 4 22 := ⟨_, _, _, _, rfl, by decide, in_X5, tyX5_ok, by decide, q376, q594, q80⟩
theorem wI_X1_171 : WI "Massclaim" 171 yX5_init cX5_init 7 6 := ⟨lw_meth q597, q80, q595, q596, rfl, ⟨by decide, by decide⟩, by decide +kernel⟩
theorem wV_X1_174 : WV "Massclaim" 174 yX2_add cX2_add 3 (some .int) 1 := ⟨lw_V q689 q690 q691 q66 q692, ⟨by decide, by decide⟩, by decide +kernel⟩
theorem wV_X0_15 : WV "MassclaimLaw" 15 yX1_person cX1_person 5 (some .int) 4 := ⟨lw_V q586 q587 q588 q65 q589, ⟨by decide, by decide⟩, by decide +kernel⟩
theorem fl_X6_9 : FL "MassclaimModel$Person" 9 5 5 .int false := ⟨_, _, _, _, "MassclaimModel$Person", fb_5 5 (by decide), rfl, rfl, fun q => Bool.noConfusion q, q1993, Or.inl rfl⟩
theorem fl_X6_15 : FL "MassclaimModel$Person" 15 5 7 (.array .long) true := ⟨_, _, _, _, "MassclaimModel$Person", fb_5 7 (by decide), rfl, rfl, fun _ => rfl, q1997, Or.inl rfl⟩
theorem fl_X6_19 : FL "MassclaimModel$Person" 19 5 8 .boolean false := ⟨_, _, _, _, "MassclaimModel$Person", fb_5 8 (by decide), rfl, rfl, fun q => Bool.noConfusion q, q1999, Or.inl rfl⟩
theorem fl_X6_23 : FL "MassclaimModel$Person" 23 5 9 .int false := ⟨_, _, _, _, "MassclaimModel$Person", fb_5 9 (by decide), rfl, rfl, fun q => Bool.noConfusion q, q2001, Or.inl rfl⟩
theorem fl_X6_26 : FL "MassclaimModel$Person" 26 5 13 .int false := ⟨_, _, _, _, "MassclaimModel$Person", fb_5 13 (by decide), rfl, rfl, fun q => Bool.noConfusion q, q2006, Or.inl rfl⟩
theorem nl_X6_29 : NL "MassclaimModel$Person" 29 17 3 := ⟨_, _, _, _, rfl, by decide, in_J2, tyJ2_ok, by decide, q1985, q122, q69⟩
theorem wI_X6_31 : WI "MassclaimModel$Person" 31 yJ2_init cJ2_init 1 0 := ⟨lw_meth q125, q69, q1986, q124, rfl, ⟨by decide, by decide⟩, by decide +kernel⟩
theorem fl_X6_32 : FL "MassclaimModel$Person" 32 5 21 (.object "java/util/ArrayList") true := ⟨_, _, _, _, "MassclaimModel$Person", fb_5 21 (by decide), rfl, rfl, fun _ => rfl, q2015, Or.inl rfl⟩
theorem nl_X4_112 : NL "MassclaimModel" 112 5 22 := ⟨_, _, _, _, rfl, by decide, in_X6, tyX6_ok, by decide, q1946, q1980, q85⟩
theorem wIN_X4_175 : WIN "MassclaimModel" 175 yX6_init cX6_init 1 0 "MassclaimModel" := ⟨lw_meth q1983, q85, q1981, q1982, rfl, ⟨by decide, by decide⟩, by decide +kernel⟩
theorem fl_X4_176 : FL "MassclaimModel" 176 5 0 .int false := ⟨_, _, _, _, "MassclaimModel$Person", fb_5 0 (by decide), rfl, rfl, fun q => Bool.noConfusion q, q1988, Or.inl rfl⟩
theorem fl_X4_179 : FL "MassclaimModel" 179 5 1 .int false := ⟨_, _, _, _, "MassclaimModel$Person", fb_5 1 (by decide), rfl, rfl, fun q => Bool.noConfusion q, q1989, Or.inl rfl⟩
theorem fl_X4_180 : FL "MassclaimModel" 180 5 2 .int false := ⟨_, _, _, _, "MassclaimModel$Person", fb_5 2 (by decide), rfl, rfl, fun q => Bool.noConfusion q, q1990, Or.inl rfl⟩
theorem fl_X4_183 : FL "MassclaimModel" 183 5 3 .int false := ⟨_, _, _, _, "MassclaimModel$Person", fb_5 3 (by decide), rfl, rfl, fun q => Bool.noConfusion q, q1991, Or.inl rfl⟩
theorem wV_X4_186 : WV "MassclaimModel" 186 yJ2_add cJ2_add 2 (some .boolean) 1 := ⟨lw_V q2062 q721 q2557 q69 q723, ⟨by decide, by decide⟩, by decide +kernel⟩
theorem fn_X1_185 : FN "Massclaim" 185 4 6 .int false := ⟨_, _, _, _, "Massclaim", fb_4 6 (by decide), rfl, rfl, q616⟩
theorem wS_X1_182 : WS "Massclaim" 182 yX1_requireState cX1_requireState 1 none 1 := ⟨lw_S q868 q698 q65 q699, ⟨by decide, by decide⟩, by decide +kernel⟩
theorem wV_X1_179 : WV "Massclaim" 179 yX5_isDead cX5_isDead 1 (some .boolean) 0 := ⟨lw_V q867 q571 q572 q80 q573, ⟨by decide, by decide⟩, by decide +kernel⟩
theorem wV_X0_21 : WV "MassclaimLaw" 21 yX1_sick cX1_sick 5 (some .int) 2 := ⟨lw_V q862 q863 q864 q65 q865, ⟨by decide, by decide⟩, by decide +kernel⟩
theorem fl_X4_196 : FL "MassclaimModel" 196 5 5 .int false := ⟨_, _, _, _, "MassclaimModel$Person", fb_5 5 (by decide), rfl, rfl, fun q => Bool.noConfusion q, q1994, Or.inl rfl⟩
theorem wV_X4_190 : WV "MassclaimModel" 190 yX4_isPerson cX4_isPerson 2 (some .boolean) 1 := ⟨lw_V q2067 q2069 qs34 q71 q2070, ⟨by decide, by decide⟩, by decide +kernel⟩
theorem fl_X4_117 : FL "MassclaimModel" 117 5 4 .int false := ⟨_, _, _, _, "MassclaimModel$Person", fb_5 4 (by decide), rfl, rfl, fun q => Bool.noConfusion q, q1992, Or.inl rfl⟩
theorem fr_X4_196 : FR "MassclaimModel" 196 5 5 := ⟨_, _, _, _, "MassclaimModel$Person", fb_5 5 (by decide), q1994, Or.inl rfl⟩
theorem fn_X5_117 : FN "Massclaim$Person" 117 13 0 .long false := ⟨_, _, _, _, "Massclaim", fb_13 0 (by decide), rfl, rfl, q1721⟩
theorem fn_X1_188 : FN "Massclaim" 188 4 20 (.array .long) false := ⟨_, _, _, _, "Massclaim", fb_4 20 (by decide), rfl, rfl, q642⟩
theorem fn_X1_191 : FN "Massclaim" 191 4 17 .long false := ⟨_, _, _, _, "Massclaim", fb_4 17 (by decide), rfl, rfl, q635⟩
theorem wV_X1_194 : WV "Massclaim" 194 yX5_lies cX5_lies 4 (some .long) 0 := ⟨lw_V q377 q378 q379 q80 q380, ⟨by decide, by decide⟩, by decide +kernel⟩
theorem fn_X1_198 : FN "Massclaim" 198 4 19 (.object "java/util/List") true := ⟨_, _, _, _, "Massclaim", fb_4 19 (by decide), rfl, rfl, q640⟩
theorem wF_X1_202_J2 : WF "Massclaim" 202 "java/util/ArrayList" ⟨"java/util/List", "clear", "()V"⟩ yJ2_clear cJ2_clear 4 none 0 := ⟨lw_app (lw_in _ [877, 218, 220, 69] (by decide +kernel) (by decide +kernel)) (lw_meth q222), List.mem_of_getElem? (i := 1) rfl, ⟨by decide, by decide⟩, by decide +kernel⟩
theorem wV_X1_204 : WV "Massclaim" 204 yX5_gets cX5_gets 6 none 1 := ⟨lw_V q878 q567 q568 q80 q569, ⟨by decide, by decide⟩, by decide +kernel⟩
theorem wV_X0_27 : WV "MassclaimLaw" 27 yX1_die cX1_die 6 (some .long) 2 := ⟨lw_V q872 q873 q874 q65 q875, ⟨by decide, by decide⟩, by decide +kernel⟩
theorem fr_X4_199 : FR "MassclaimModel" 199 5 6 := ⟨_, _, _, _, "MassclaimModel$Person", fb_5 6 (by decide), q1996, Or.inl rfl⟩
theorem fr_X4_210 : FR "MassclaimModel" 210 5 7 := ⟨_, _, _, _, "MassclaimModel$Person", fb_5 7 (by decide), q1998, Or.inl rfl⟩
theorem fl_X4_199 : FL "MassclaimModel" 199 5 6 .int false := ⟨_, _, _, _, "MassclaimModel$Person", fb_5 6 (by decide), rfl, rfl, fun q => Bool.noConfusion q, q1996, Or.inl rfl⟩
theorem wS_X4_202 : WS "MassclaimModel" 202 yX4_yearly cX4_yearly 4 (some .long) 1 := ⟨lw_S q2076 q2077 q71 q2078, ⟨by decide, by decide⟩, by decide +kernel⟩
theorem wS_X4_206 : WS "MassclaimModel" 206 yX4_toHeirs cX4_toHeirs 6 none 2 := ⟨lw_S q2079 q2080 q71 q2081, ⟨by decide, by decide⟩, by decide +kernel⟩
theorem fr_X1_84 : FR "Massclaim" 84 0 9 := ⟨_, _, _, _, "Massclaim", fb_0 9 (by decide), q239, Or.inl rfl⟩
theorem fn_X1_118 : FN "Massclaim" 118 9 3 .int false := ⟨_, _, _, _, "Massclaim", fb_9 3 (by decide), rfl, rfl, q1405⟩
theorem wV_X1_123 : WV "Massclaim" 123 yX1_stage cX1_stage 1 (some .int) 0 := ⟨lw_V q892 q894 qs8 q65 q895, ⟨by decide, by decide⟩, by decide +kernel⟩
theorem fl_J16_1 : FL "java/util/ArrayList$Itr" 1 18 3 (.object "java/util/ArrayList") true := ⟨_, _, _, _, "java/util/ArrayList$Itr", fb_18 3 (by decide), rfl, rfl, fun _ => rfl, q330, Or.inl rfl⟩
theorem fl_J16_13 : FL "java/util/ArrayList$Itr" 13 18 1 .int false := ⟨_, _, _, _, "java/util/ArrayList$Itr", fb_18 1 (by decide), rfl, rfl, fun q => Bool.noConfusion q, q328, Or.inl rfl⟩
theorem fr_J16_1 : FR "java/util/ArrayList$Itr" 1 18 3 := ⟨_, _, _, _, "java/util/ArrayList$Itr", fb_18 3 (by decide), q330, Or.inl rfl⟩
theorem fr_J16_17 : FR "java/util/ArrayList$Itr" 17 17 0 := ⟨_, _, _, _, "java/util/ArrayList", fb_17 0 (by decide), q140, Or.inr q141⟩
theorem fl_J16_22 : FL "java/util/ArrayList$Itr" 22 18 2 .int false := ⟨_, _, _, _, "java/util/ArrayList$Itr", fb_18 2 (by decide), rfl, rfl, fun q => Bool.noConfusion q, q329, Or.inl rfl⟩
theorem nl_J2_267 : NL "java/util/ArrayList" 267 18 4 := ⟨_, _, _, _, rfl, by decide, in_J16, tyJ16_ok, by decide, q321, q322, q88⟩
theorem wI_J2_269 : WI "java/util/ArrayList" 269 yJ16_init cJ16_init 2 1 := ⟨lw_meth q325, q88, q323, q324, rfl, ⟨by decide, by decide⟩, by decide +kernel⟩
theorem wF_X2_59_J2 : WF "Massclaim$Row" 59 "java/util/ArrayList" ⟨"java/util/List", "iterator", "()Ljava/util/Iterator;"⟩ yJ2_iterator cJ2_iterator 1 (some (.object "java/util/Iterator")) 0 := ⟨lw_app (lw_in _ [313, 316, 318, 69] (by decide +kernel) (by decide +kernel)) (lw_meth q320), List.mem_of_getElem? (i := 2) rfl, ⟨by decide, by decide⟩, by decide +kernel⟩
theorem fr_J16_25 : FR "java/util/ArrayList$Itr" 25 18 0 := ⟨_, _, _, _, "java/util/ArrayList$Itr", fb_18 0 (by decide), q327, Or.inl rfl⟩
theorem fn_J16_28 : FN "java/util/ArrayList$Itr" 28 17 2 .int false := ⟨_, _, _, _, "java/util/ArrayList", fb_17 2 (by decide), rfl, rfl, q137⟩
theorem fr_J16_22 : FR "java/util/ArrayList$Itr" 22 18 2 := ⟨_, _, _, _, "java/util/ArrayList$Itr", fb_18 2 (by decide), q329, Or.inl rfl⟩
theorem wV_J16_31 : WV "java/util/ArrayList$Itr" 31 yJ16_checkForComodification cJ16_checkForComodification 1 none 0 := ⟨lw_V q359 q360 q361 q88 q362, ⟨by decide, by decide⟩, by decide +kernel⟩
theorem fr_J16_37 : FR "java/util/ArrayList$Itr" 37 17 1 := ⟨_, _, _, _, "java/util/ArrayList", fb_17 1 (by decide), q136, Or.inl rfl⟩
theorem fl_J16_25 : FL "java/util/ArrayList$Itr" 25 18 0 .int false := ⟨_, _, _, _, "java/util/ArrayList$Itr", fb_18 0 (by decide), rfl, rfl, fun q => Bool.noConfusion q, q327, Or.inl rfl⟩
theorem wF_X1_212_J16 : WF "Massclaim" 212 "java/util/ArrayList$Itr" ⟨"java/util/Iterator", "hasNext", "()Z"⟩ yJ16_hasNext cJ16_hasNext 1 (some .boolean) 0 := ⟨lw_app (lw_in _ [341, 345, 347, 88] (by decide +kernel) (by decide +kernel)) (lw_meth q349), List.mem_of_getElem? (i := 3) rfl, ⟨by decide, by decide⟩, by decide +kernel⟩
theorem wF_X1_217_J16 : WF "Massclaim" 217 "java/util/ArrayList$Itr" ⟨"java/util/Iterator", "next", "()Ljava/lang/Object;"⟩ yJ16_next cJ16_next 3 (some (.object "java/lang/Object")) 0 := ⟨lw_app (lw_in _ [351, 354, 356, 88] (by decide +kernel) (by decide +kernel)) (lw_meth q358), List.mem_of_getElem? (i := 4) rfl, ⟨by decide, by decide⟩, by decide +kernel⟩
theorem wV_X1_208 : WV "Massclaim" 208 yX2_iterator cX2_iterator 1 (some (.object "java/util/Iterator")) 0 := ⟨lw_V q308 q309 q310 q66 q311, ⟨by decide, by decide⟩, by decide +kernel⟩
theorem wV_X1_228 : WV "Massclaim" 228 yX1_members cX1_members 4 (some .int) 0 := ⟨lw_V q896 q898 qs9 q65 q899, ⟨by decide, by decide⟩, by decide +kernel⟩
theorem wV_X1_225 : WV "Massclaim" 225 yX1_isDone cX1_isDone 1 (some .boolean) 0 := ⟨lw_V q888 q890 qs7 q65 q891, ⟨by decide, by decide⟩, by decide +kernel⟩
theorem wV_X0_31 : WV "MassclaimLaw" 31 yX1_define cX1_define 4 (some .int) 3 := ⟨lw_V q882 q883 q884 q65 q885, ⟨by decide, by decide⟩, by decide +kernel⟩
theorem fr_X4_53 : FR "MassclaimModel" 53 3 9 := ⟨_, _, _, _, "MassclaimModel", fb_3 9 (by decide), q1849, Or.inl rfl⟩
theorem fl_X4_213 : FL "MassclaimModel" 213 3 4 .int false := ⟨_, _, _, _, "MassclaimModel", fb_3 4 (by decide), rfl, rfl, fun q => Bool.noConfusion q, q1844, Or.inl rfl⟩
theorem fl_X4_216 : FL "MassclaimModel" 216 3 5 .int false := ⟨_, _, _, _, "MassclaimModel", fb_3 5 (by decide), rfl, rfl, fun q => Bool.noConfusion q, q1845, Or.inl rfl⟩
theorem fl_X4_219 : FL "MassclaimModel" 219 3 6 .int false := ⟨_, _, _, _, "MassclaimModel", fb_3 6 (by decide), rfl, rfl, fun q => Bool.noConfusion q, q1846, Or.inl rfl⟩
theorem wV_X4_235 : WV "MassclaimModel" 235 yX4_allIn cX4_allIn 3 (some .int) 0 := ⟨lw_V q2092 q2094 qs36 q71 q2095, ⟨by decide, by decide⟩, by decide +kernel⟩
theorem wV_X4_232 : WV "MassclaimModel" 232 yX4_isOver cX4_isOver 1 (some .boolean) 0 := ⟨lw_V q2088 q2090 qs35 q71 q2091, ⟨by decide, by decide⟩, by decide +kernel⟩
theorem fl_X7_7 : FL "Massclaim$Subclass" 7 6 0 .int true := ⟨_, _, _, _, "Massclaim$Subclass", fb_6 0 (by decide), rfl, rfl, fun _ => rfl, q913, Or.inl rfl⟩
theorem fl_X7_13 : FL "Massclaim$Subclass" 13 6 1 .int true := ⟨_, _, _, _, "Massclaim$Subclass", fb_6 1 (by decide), rfl, rfl, fun _ => rfl, q915, Or.inl rfl⟩
theorem fl_X7_16 : FL "Massclaim$Subclass" 16 6 2 .int true := ⟨_, _, _, _, "Massclaim$Subclass", fb_6 2 (by decide), rfl, rfl, fun _ => rfl, q916, Or.inl rfl⟩
theorem fl_X7_19 : FL "Massclaim$Subclass" 19 6 3 .boolean true := ⟨_, _, _, _, "Massclaim$Subclass", fb_6 3 (by decide), rfl, rfl, fun _ => rfl, q917, Or.inl rfl⟩
theorem nl_X1_231 : NL "Massclaim" 231 6 4 := ⟨_, _, _, _, rfl, by decide, in_X7, tyX7_ok, by decide, q907, q908, q89⟩
theorem wI_X1_233 : WI "Massclaim" 233 yX7_init cX7_init 5 4 := ⟨lw_meth q911, q89, q909, q910, rfl, ⟨by decide, by decide⟩, by decide +kernel⟩
theorem wV_X0_35 : WV "MassclaimLaw" 35 yX1_subclass cX1_subclass 4 (some .int) 3 := ⟨lw_V q903 q904 q905 q65 q906, ⟨by decide, by decide⟩, by decide +kernel⟩
theorem fr_X7_13 : FR "Massclaim$Subclass" 13 6 1 := ⟨_, _, _, _, "Massclaim$Subclass", fb_6 1 (by decide), q915, Or.inl rfl⟩
theorem fr_X7_16 : FR "Massclaim$Subclass" 16 6 2 := ⟨_, _, _, _, "Massclaim$Subclass", fb_6 2 (by decide), q916, Or.inl rfl⟩
theorem wSN_X7_23 : WSN "Massclaim$Subclass" 23 yX1_isIn cX1_isIn 6 (some .boolean) 3 "Massclaim" := ⟨lw_meth q457, q65, q947, q456, ⟨by decide, by decide⟩, by decide +kernel⟩
theorem wF_X18_1_X5 : WF "Massclaim$Numbered" 1 "Massclaim$Person" ⟨"Massclaim$Numbered", "number", "()I"⟩ yX5_number cX5_number 1 (some .int) 0 := ⟨lw_app (lw_in _ [968, 815, 817, 80] (by decide +kernel) (by decide +kernel)) (lw_meth q819), List.mem_of_getElem? (i := 10) rfl, ⟨by decide, by decide⟩, by decide +kernel⟩
theorem wF_X18_1_X7 : WF "Massclaim$Numbered" 1 "Massclaim$Subclass" ⟨"Massclaim$Numbered", "number", "()I"⟩ yX7_number cX7_number 1 (some .int) 0 := ⟨lw_app (lw_in _ [968, 821, 823, 89] (by decide +kernel) (by decide +kernel)) (lw_meth q825), List.mem_of_getElem? (i := 11) rfl, ⟨by decide, by decide⟩, by decide +kernel⟩
theorem wF_X18_1_X8 : WF "Massclaim$Numbered" 1 "Massclaim$Defendant" ⟨"Massclaim$Numbered", "number", "()I"⟩ yX8_number cX8_number 1 (some .int) 0 := ⟨lw_app (lw_in _ [968, 803, 805, 96] (by decide +kernel) (by decide +kernel)) (lw_meth q807), List.mem_of_getElem? (i := 8) rfl, ⟨by decide, by decide⟩, by decide +kernel⟩
theorem wF_X18_1_X12 : WF "Massclaim$Numbered" 1 "Massclaim$Claim" ⟨"Massclaim$Numbered", "number", "()I"⟩ yX12_number cX12_number 1 (some .int) 0 := ⟨lw_app (lw_in _ [968, 797, 799, 100] (by decide +kernel) (by decide +kernel)) (lw_meth q801), List.mem_of_getElem? (i := 7) rfl, ⟨by decide, by decide⟩, by decide +kernel⟩
theorem wF_X18_1_X16 : WF "Massclaim$Numbered" 1 "Massclaim$Lien" ⟨"Massclaim$Numbered", "number", "()I"⟩ yX16_number cX16_number 1 (some .int) 0 := ⟨lw_app (lw_in _ [968, 809, 811, 104] (by decide +kernel) (by decide +kernel)) (lw_meth q813), List.mem_of_getElem? (i := 9) rfl, ⟨by decide, by decide⟩, by decide +kernel⟩
theorem wF_X1_19_J2 : WF "Massclaim" 19 "java/util/ArrayList" ⟨"java/util/List", "get", "(I)Ljava/lang/Object;"⟩ yJ2_get cJ2_get 2 (some (.object "java/lang/Object")) 1 := ⟨lw_app (lw_in _ [957, 387, 389, 69] (by decide +kernel) (by decide +kernel)) (lw_meth q391), List.mem_of_getElem? (i := 5) rfl, ⟨by decide, by decide⟩, by decide +kernel⟩
theorem wF_X1_13_J2 : WF "Massclaim" 13 "java/util/ArrayList" ⟨"java/util/List", "size", "()I"⟩ yJ2_size cJ2_size 1 (some .int) 0 := ⟨lw_app (lw_in _ [955, 209, 211, 69] (by decide +kernel) (by decide +kernel)) (lw_meth q213), List.mem_of_getElem? (i := 0) rfl, ⟨by decide, by decide⟩, by decide +kernel⟩
theorem fn_X5_74 : FN "Massclaim$Person" 74 0 1 (.object "Massclaim$Row") true := ⟨_, _, _, _, "Massclaim", fb_0 1 (by decide), rfl, rfl, q225⟩
theorem wV_X5_78 : WV "Massclaim$Person" 78 yX2_size cX2_size 1 (some .int) 0 := ⟨lw_V q940 q443 q444 q66 q445, ⟨by decide, by decide⟩, by decide +kernel⟩
theorem wV_X5_103 : WV "Massclaim$Person" 103 yX5_isMember cX5_isMember 1 (some .boolean) 0 := ⟨lw_V q950 q554 q555 q80 q556, ⟨by decide, by decide⟩, by decide +kernel⟩
theorem wSN_X5_106 : WSN "Massclaim$Person" 106 yX1_first cX1_first 3 (some (.object "Massclaim$Numbered")) 1 "Massclaim" := ⟨lw_meth q953, q65, q951, q952, ⟨by decide, by decide⟩, by decide +kernel⟩
theorem wV_X5_84 : WV "Massclaim$Person" 84 yX2_at cX2_at 2 (some (.object "Massclaim$Numbered")) 1 := ⟨lw_V q941 q528 q529 q66 q530, ⟨by decide, by decide⟩, by decide +kernel⟩
theorem fr_X5_90 : FR "Massclaim$Person" 90 4 5 := ⟨_, _, _, _, "Massclaim$Person", fb_4 5 (by decide), q612, Or.inl rfl⟩
theorem wV_X5_93 : WV "Massclaim$Person" 93 yX7_has cX7_has 2 (some .boolean) 1 := ⟨lw_V q943 q944 q945 q89 q946, ⟨by decide, by decide⟩, by decide +kernel⟩
theorem wF_X5_97_J2 : WF "Massclaim$Person" 97 "java/util/ArrayList" ⟨"java/util/List", "add", "(Ljava/lang/Object;)Z"⟩ yJ2_add cJ2_add 2 (some .boolean) 1 := ⟨lw_app (lw_in _ [949, 719, 721, 69] (by decide +kernel) (by decide +kernel)) (lw_meth q723), List.mem_of_getElem? (i := 6) rfl, ⟨by decide, by decide⟩, by decide +kernel⟩
theorem fr_X5_71 : FR "Massclaim$Person" 71 4 7 := ⟨_, _, _, _, "Massclaim$Person", fb_4 7 (by decide), q617, Or.inl rfl⟩
theorem wV_X1_238 : WV "Massclaim" 238 yX5_subclass cX5_subclass 4 (some (.object "Massclaim$Subclass")) 0 := ⟨lw_V q936 q937 q938 q80 q939, ⟨by decide, by decide⟩, by decide +kernel⟩
theorem fn_X1_242 : FN "Massclaim" 242 6 0 .int true := ⟨_, _, _, _, "Massclaim", fb_6 0 (by decide), rfl, rfl, q914⟩
theorem wV_X1_245 : WV "Massclaim" 245 yX5_isBarred cX5_isBarred 1 (some .boolean) 0 := ⟨lw_V q973 q974 q975 q80 q976, ⟨by decide, by decide⟩, by decide +kernel⟩
theorem fn_X1_248 : FN "Massclaim" 248 4 10 .int false := ⟨_, _, _, _, "Massclaim", fb_4 10 (by decide), rfl, rfl, q624⟩
theorem fn_X1_251 : FN "Massclaim" 251 4 15 (.object "Massclaim$Claim") false := ⟨_, _, _, _, "Massclaim", fb_4 15 (by decide), rfl, rfl, q631⟩
theorem fn_X1_255 : FN "Massclaim" 255 11 0 .int true := ⟨_, _, _, _, "Massclaim", fb_11 0 (by decide), rfl, rfl, q1545⟩
theorem wV_X1_256 : WV "Massclaim" 256 yX5_age cX5_age 2 (some .int) 1 := ⟨lw_V q977 q417 q418 q80 q419, ⟨by decide, by decide⟩, by decide +kernel⟩
theorem fn_X1_260 : FN "Massclaim" 260 4 8 .boolean false := ⟨_, _, _, _, "Massclaim", fb_4 8 (by decide), rfl, rfl, q620⟩
theorem wV_X0_39 : WV "MassclaimLaw" 39 yX1_personAt cX1_personAt 4 (some .int) 2 := ⟨lw_V q931 q932 q933 q65 q934, ⟨by decide, by decide⟩, by decide +kernel⟩
theorem wU_J2_93_X6 : WU "java/util/ArrayList" 93 "MassclaimModel$Person" "java/lang/Object" ⟨"java/lang/Object", "equals", "(Ljava/lang/Object;)Z"⟩ yJ23_equals cJ23_equals 2 (some .boolean) 1 := ⟨lw_app (lw_in _ [2119, 2121, 2137, 2120, 2559] (by decide +kernel) (by decide +kernel)) (lw_meth q2151), rfl, ⟨by decide, by decide⟩, by decide +kernel⟩
theorem wU_J2_93_X13 : WU "java/util/ArrayList" 93 "MassclaimModel$Claim" "java/lang/Object" ⟨"java/lang/Object", "equals", "(Ljava/lang/Object;)Z"⟩ yJ23_equals cJ23_equals 2 (some .boolean) 1 := ⟨lw_app (lw_in _ [2119, 2121, 2134, 2120, 2559] (by decide +kernel) (by decide +kernel)) (lw_meth q2151), rfl, ⟨by decide, by decide⟩, by decide +kernel⟩
theorem wV_J2_89 : WV "java/util/ArrayList" 89 yJ2_indexOfRange cJ2_indexOfRange 6 (some .int) 3 := ⟨lw_V q2114 q2115 q2116 q69 q2117, ⟨by decide, by decide⟩, by decide +kernel⟩
theorem wV_X4_241 : WV "MassclaimModel" 241 yX4_subclassOf cX4_subclassOf 4 (some .int) 1 := ⟨lw_V q2105 q2107 qs37 q71 q2108, ⟨by decide, by decide⟩, by decide +kernel⟩
theorem fr_X4_245 : FR "MassclaimModel" 245 5 9 := ⟨_, _, _, _, "MassclaimModel$Person", fb_5 9 (by decide), q2002, Or.inl rfl⟩
theorem fr_X4_248 : FR "MassclaimModel" 248 5 17 := ⟨_, _, _, _, "MassclaimModel$Person", fb_5 17 (by decide), q2011, Or.inl rfl⟩
theorem wV_X4_252 : WV "MassclaimModel" 252 yJ2_indexOf cJ2_indexOf 2 (some .int) 1 := ⟨lw_V q2110 q2111 q2112 q69 q2113, ⟨by decide, by decide⟩, by decide +kernel⟩
theorem fn_X5_166 : FN "Massclaim$Person" 166 0 4 (.object "Massclaim$Row") true := ⟨_, _, _, _, "Massclaim", fb_0 4 (by decide), rfl, rfl, q231⟩
theorem fn_X5_171 : FN "Massclaim$Person" 171 15 1 (.object "Massclaim$Person") true := ⟨_, _, _, _, "Massclaim", fb_15 1 (by decide), rfl, rfl, q1756⟩
theorem fn_X5_175 : FN "Massclaim$Person" 175 15 3 .int false := ⟨_, _, _, _, "Massclaim", fb_15 3 (by decide), rfl, rfl, q1762⟩
theorem fn_X1_266 : FN "Massclaim" 266 4 16 .long false := ⟨_, _, _, _, "Massclaim", fb_4 16 (by decide), rfl, rfl, q633⟩
theorem fn_X1_269 : FN "Massclaim" 269 4 18 .long false := ⟨_, _, _, _, "Massclaim", fb_4 18 (by decide), rfl, rfl, q638⟩
theorem wV_X1_272 : WV "Massclaim" 272 yX5_openLiens cX5_openLiens 4 (some .long) 0 := ⟨lw_V q986 q987 q988 q80 q989, ⟨by decide, by decide⟩, by decide +kernel⟩
theorem wV_X0_42 : WV "MassclaimLaw" 42 yX1_moneyOf cX1_moneyOf 4 (some .long) 2 := ⟨lw_V q981 q982 q983 q65 q984, ⟨by decide, by decide⟩, by decide +kernel⟩
theorem fr_X4_258 : FR "MassclaimModel" 258 16 0 := ⟨_, _, _, _, "MassclaimModel$Lien", fb_16 0 (by decide), q2480, Or.inl rfl⟩
theorem fr_X4_262 : FR "MassclaimModel" 262 16 1 := ⟨_, _, _, _, "MassclaimModel$Lien", fb_16 1 (by decide), q2481, Or.inl rfl⟩
theorem wV_X4_270 : WV "MassclaimModel" 270 yX4_openOf cX4_openOf 4 (some .int) 1 := ⟨lw_V q2157 q2159 qs38 q71 q2160, ⟨by decide, by decide⟩, by decide +kernel⟩
theorem fr_X4_267 : FR "MassclaimModel" 267 5 20 := ⟨_, _, _, _, "MassclaimModel$Person", fb_5 20 (by decide), q2014, Or.inl rfl⟩
theorem wS_X1_275 : WS "Massclaim" 275 yX1_requireIndex cX1_requireIndex 1 none 1 := ⟨lw_S q998 q533 q65 q534, ⟨by decide, by decide⟩, by decide +kernel⟩
theorem wV_X0_45 : WV "MassclaimLaw" 45 yX1_heirAt cX1_heirAt 4 (some .long) 2 := ⟨lw_V q994 q995 q996 q65 q997, ⟨by decide, by decide⟩, by decide +kernel⟩
theorem fn_X1_283 : FN "Massclaim" 283 4 2 .int true := ⟨_, _, _, _, "Massclaim", fb_4 2 (by decide), rfl, rfl, q606⟩
theorem fn_X1_280 : FN "Massclaim" 280 4 9 .boolean false := ⟨_, _, _, _, "Massclaim", fb_4 9 (by decide), rfl, rfl, q622⟩
theorem fr_X1_88 : FR "Massclaim" 88 0 10 := ⟨_, _, _, _, "Massclaim", fb_0 10 (by decide), q241, Or.inl rfl⟩
theorem wV_X0_48 : WV "MassclaimLaw" 48 yX1_notice cX1_notice 7 (some .int) 2 := ⟨lw_V q1002 q1003 q1004 q65 q1005, ⟨by decide, by decide⟩, by decide +kernel⟩
theorem fl_X4_245 : FL "MassclaimModel" 245 5 9 .int false := ⟨_, _, _, _, "MassclaimModel$Person", fb_5 9 (by decide), rfl, rfl, fun q => Bool.noConfusion q, q2002, Or.inl rfl⟩
theorem fr_X4_275 : FR "MassclaimModel" 275 5 8 := ⟨_, _, _, _, "MassclaimModel$Person", fb_5 8 (by decide), q2000, Or.inl rfl⟩
theorem wV_X0_51 : WV "MassclaimLaw" 51 yX1_address cX1_address 5 (some .boolean) 2 := ⟨lw_V q1010 q1011 q1012 q65 q1013, ⟨by decide, by decide⟩, by decide +kernel⟩
theorem fl_X4_275 : FL "MassclaimModel" 275 5 8 .boolean false := ⟨_, _, _, _, "MassclaimModel$Person", fb_5 8 (by decide), rfl, rfl, fun q => Bool.noConfusion q, q2000, Or.inl rfl⟩
theorem wV_X0_55 : WV "MassclaimLaw" 55 yX1_optOut cX1_optOut 5 (some .boolean) 2 := ⟨lw_V q1017 q1018 q1019 q65 q1020, ⟨by decide, by decide⟩, by decide +kernel⟩
theorem fl_X4_225 : FL "MassclaimModel" 225 5 10 .boolean false := ⟨_, _, _, _, "MassclaimModel$Person", fb_5 10 (by decide), rfl, rfl, fun q => Bool.noConfusion q, q2003, Or.inl rfl⟩
theorem wV_X0_58 : WV "MassclaimLaw" 58 yX1_optIn cX1_optIn 4 (some .boolean) 1 := ⟨lw_V q1024 q1025 q1026 q65 q1027, ⟨by decide, by decide⟩, by decide +kernel⟩
theorem wV_J2_135 : WV "java/util/ArrayList" 135 yJ2_rangeCheckForAdd cJ2_rangeCheckForAdd 2 none 1 := ⟨lw_V q1046 q1048 qs10 q69 q1049, ⟨by decide, by decide⟩, by decide +kernel⟩
theorem wF_X1_293_J2 : WF "Massclaim" 293 "java/util/ArrayList" ⟨"java/util/List", "add", "(ILjava/lang/Object;)V"⟩ yJ2_add_3 cJ2_add_3 5 none 2 := ⟨lw_app (lw_in _ [1038, 1041, 1043, 69] (by decide +kernel) (by decide +kernel)) (lw_meth q1045), List.mem_of_getElem? (i := 17) rfl, ⟨by decide, by decide⟩, by decide +kernel⟩
theorem fn_X1_290 : FN "Massclaim" 290 4 4 .int true := ⟨_, _, _, _, "Massclaim", fb_4 4 (by decide), rfl, rfl, q610⟩
theorem wF_X1_296_J2 : WF "Massclaim" 296 "java/util/ArrayList" ⟨"java/util/List", "isEmpty", "()Z"⟩ yJ2_isEmpty cJ2_isEmpty 1 (some .boolean) 0 := ⟨lw_app (lw_in _ [1287, 1290, 1292, 69] (by decide +kernel) (by decide +kernel)) (lw_meth q1294), List.mem_of_getElem? (i := 18) rfl, ⟨by decide, by decide⟩, by decide +kernel⟩
theorem fn_X1_287 : FN "Massclaim" 287 4 11 .boolean false := ⟨_, _, _, _, "Massclaim", fb_4 11 (by decide), rfl, rfl, q625⟩
theorem fn_X1_299 : FN "Massclaim" 299 4 0 .int true := ⟨_, _, _, _, "Massclaim", fb_4 0 (by decide), rfl, rfl, q602⟩
theorem nl_X1_284 : NL "Massclaim" 284 17 3 := ⟨_, _, _, _, rfl, by decide, in_J2, tyJ2_ok, by decide, q1035, q122, q69⟩
theorem wI_X1_286 : WI "Massclaim" 286 yJ2_init cJ2_init 1 0 := ⟨lw_meth q125, q69, q1036, q124, rfl, ⟨by decide, by decide⟩, by decide +kernel⟩
theorem wV_X0_62 : WV "MassclaimLaw" 62 yX1_draw cX1_draw 7 (some .int) 1 := ⟨lw_V q1031 q1032 q1033 q65 q1034, ⟨by decide, by decide⟩, by decide +kernel⟩
theorem fr_X4_278 : FR "MassclaimModel" 278 5 12 := ⟨_, _, _, _, "MassclaimModel$Person", fb_5 12 (by decide), q2005, Or.inl rfl⟩
theorem wV_X4_281 : WV "MassclaimModel" 281 yJ2_isEmpty cJ2_isEmpty 1 (some .boolean) 0 := ⟨lw_V q2187 q1292 q2558 q69 q1294, ⟨by decide, by decide⟩, by decide +kernel⟩
theorem fl_X4_278 : FL "MassclaimModel" 278 5 12 .boolean false := ⟨_, _, _, _, "MassclaimModel$Person", fb_5 12 (by decide), rfl, rfl, fun q => Bool.noConfusion q, q2005, Or.inl rfl⟩
theorem fn_X1_302 : FN "Massclaim" 302 4 12 .boolean false := ⟨_, _, _, _, "Massclaim", fb_4 12 (by decide), rfl, rfl, q626⟩
theorem wV_X1_305 : WV "Massclaim" 305 yX1_offered cX1_offered 3 (some .int) 1 := ⟨lw_V q1303 q1305 qs12 q65 q1306, ⟨by decide, by decide⟩, by decide +kernel⟩
theorem wV_X0_65 : WV "MassclaimLaw" 65 yX1_verdict cX1_verdict 4 (some .int) 2 := ⟨lw_V q1298 q1299 q1300 q65 q1301, ⟨by decide, by decide⟩, by decide +kernel⟩
theorem fr_X4_284 : FR "MassclaimModel" 284 5 13 := ⟨_, _, _, _, "MassclaimModel$Person", fb_5 13 (by decide), q2007, Or.inl rfl⟩
theorem fr_X4_287 : FR "MassclaimModel" 287 5 14 := ⟨_, _, _, _, "MassclaimModel$Person", fb_5 14 (by decide), q2008, Or.inl rfl⟩
theorem fl_X4_284 : FL "MassclaimModel" 284 5 13 .int false := ⟨_, _, _, _, "MassclaimModel$Person", fb_5 13 (by decide), rfl, rfl, fun q => Bool.noConfusion q, q2007, Or.inl rfl⟩
theorem fl_X4_287 : FL "MassclaimModel" 287 5 14 .int false := ⟨_, _, _, _, "MassclaimModel$Person", fb_5 14 (by decide), rfl, rfl, fun q => Bool.noConfusion q, q2008, Or.inl rfl⟩
theorem wV_X4_292 : WV "MassclaimModel" 292 yX4_offerOf cX4_offerOf 8 (some .int) 1 := ⟨lw_V q2193 q2195 qs39 q71 q2196, ⟨by decide, by decide⟩, by decide +kernel⟩
theorem wS_X1_308 : WS "Massclaim" 308 yX1_requireLevel cX1_requireLevel 1 none 1 := ⟨lw_S q1314 q1315 q65 q1316, ⟨by decide, by decide⟩, by decide +kernel⟩
theorem wV_X0_68 : WV "MassclaimLaw" 68 yX1_offer cX1_offer 2 (some .int) 1 := ⟨lw_V q1310 q1311 q1312 q65 q1313, ⟨by decide, by decide⟩, by decide +kernel⟩
theorem fn_X1_313 : FN "Massclaim" 313 7 1 .int true := ⟨_, _, _, _, "Massclaim", fb_7 1 (by decide), rfl, rfl, q1336⟩
theorem fl_X8_7 : FL "Massclaim$Defendant" 7 7 0 .int true := ⟨_, _, _, _, "Massclaim$Defendant", fb_7 0 (by decide), rfl, rfl, fun _ => rfl, q1334, Or.inl rfl⟩
theorem fl_X8_13 : FL "Massclaim$Defendant" 13 7 1 .int true := ⟨_, _, _, _, "Massclaim$Defendant", fb_7 1 (by decide), rfl, rfl, fun _ => rfl, q1335, Or.inl rfl⟩
theorem fl_X8_16 : FL "Massclaim$Defendant" 16 7 2 .int false := ⟨_, _, _, _, "Massclaim$Defendant", fb_7 2 (by decide), rfl, rfl, fun q => Bool.noConfusion q, q1337, Or.inl rfl⟩
theorem nl_X1_311 : NL "Massclaim" 311 7 6 := ⟨_, _, _, _, rfl, by decide, in_X8, tyX8_ok, by decide, q363, q1329, q96⟩
theorem wI_X1_323 : WI "Massclaim" 323 yX8_init cX8_init 4 3 := ⟨lw_meth q1332, q96, q1330, q1331, rfl, ⟨by decide, by decide⟩, by decide +kernel⟩
theorem wV_X1_318 : WV "Massclaim" 318 yX1_shares cX1_shares 4 (some .int) 0 := ⟨lw_V q1324 q1326 qs13 q65 q1327, ⟨by decide, by decide⟩, by decide +kernel⟩
theorem wV_X0_71 : WV "MassclaimLaw" 71 yX1_defendant cX1_defendant 3 (some .int) 2 := ⟨lw_V q1320 q1321 q1322 q65 q1323, ⟨by decide, by decide⟩, by decide +kernel⟩
theorem fr_X4_297 : FR "MassclaimModel" 297 8 0 := ⟨_, _, _, _, "MassclaimModel$Defendant", fb_8 0 (by decide), q2217, Or.inl rfl⟩
theorem nl_X4_295 : NL "MassclaimModel" 295 8 5 := ⟨_, _, _, _, rfl, by decide, in_X9, tyX9_ok, by decide, q2211, q2212, q97⟩
theorem wIN_X4_307 : WIN "MassclaimModel" 307 yX9_init cX9_init 1 0 "MassclaimModel" := ⟨lw_meth q2215, q97, q2213, q2214, rfl, ⟨by decide, by decide⟩, by decide +kernel⟩
theorem fl_X4_297 : FL "MassclaimModel" 297 8 0 .int false := ⟨_, _, _, _, "MassclaimModel$Defendant", fb_8 0 (by decide), rfl, rfl, fun q => Bool.noConfusion q, q2217, Or.inl rfl⟩
theorem fl_X4_308 : FL "MassclaimModel" 308 8 1 .long false := ⟨_, _, _, _, "MassclaimModel$Defendant", fb_8 1 (by decide), rfl, rfl, fun q => Bool.noConfusion q, q2218, Or.inl rfl⟩
theorem wV_X4_304 : WV "MassclaimModel" 304 yX4_shares cX4_shares 3 (some .int) 0 := ⟨lw_V q2207 q2209 qs40 q71 q2210, ⟨by decide, by decide⟩, by decide +kernel⟩
theorem fn_X1_329 : FN "Massclaim" 329 7 3 .long false := ⟨_, _, _, _, "Massclaim", fb_7 3 (by decide), rfl, rfl, q1339⟩
theorem fn_X1_332 : FN "Massclaim" 332 7 2 .int false := ⟨_, _, _, _, "Massclaim", fb_7 2 (by decide), rfl, rfl, q1338⟩
theorem wS_X1_335 : WS "Massclaim" 335 yJ10_min cJ10_min 4 (some .long) 2 := ⟨lw_S q1362 q426 q79 q427, ⟨by decide, by decide⟩, by decide +kernel⟩
theorem fn_X1_341 : FN "Massclaim" 341 7 4 .long false := ⟨_, _, _, _, "Massclaim", fb_7 4 (by decide), rfl, rfl, q1340⟩
theorem fr_X1_111 : FR "Massclaim" 111 0 17 := ⟨_, _, _, _, "Massclaim", fb_0 17 (by decide), q252, Or.inl rfl⟩
theorem fn_X1_326 : FN "Massclaim" 326 7 5 .boolean false := ⟨_, _, _, _, "Massclaim", fb_7 5 (by decide), rfl, rfl, q1341⟩
theorem wV_X0_74 : WV "MassclaimLaw" 74 yX1_payIn cX1_payIn 6 (some .long) 2 := ⟨lw_V q1358 q1359 q1360 q65 q1361, ⟨by decide, by decide⟩, by decide +kernel⟩
theorem fr_X4_317 : FR "MassclaimModel" 317 8 2 := ⟨_, _, _, _, "MassclaimModel$Defendant", fb_8 2 (by decide), q2219, Or.inl rfl⟩
theorem fr_X4_308 : FR "MassclaimModel" 308 8 1 := ⟨_, _, _, _, "MassclaimModel$Defendant", fb_8 1 (by decide), q2218, Or.inl rfl⟩
theorem wS_X4_320 : WS "MassclaimModel" 320 yJ10_min cJ10_min 4 (some .long) 2 := ⟨lw_S q2241 q426 q79 q427, ⟨by decide, by decide⟩, by decide +kernel⟩
theorem fl_X4_317 : FL "MassclaimModel" 317 8 2 .long false := ⟨_, _, _, _, "MassclaimModel$Defendant", fb_8 2 (by decide), rfl, rfl, fun q => Bool.noConfusion q, q2219, Or.inl rfl⟩
theorem fr_X4_326 : FR "MassclaimModel" 326 8 3 := ⟨_, _, _, _, "MassclaimModel$Defendant", fb_8 3 (by decide), q2220, Or.inl rfl⟩
theorem fl_X4_326 : FL "MassclaimModel" 326 8 3 .long false := ⟨_, _, _, _, "MassclaimModel$Defendant", fb_8 3 (by decide), rfl, rfl, fun q => Bool.noConfusion q, q2220, Or.inl rfl⟩
theorem fr_X4_76 : FR "MassclaimModel" 76 3 22 := ⟨_, _, _, _, "MassclaimModel", fb_3 22 (by decide), q1862, Or.inl rfl⟩
theorem fr_X4_79 : FR "MassclaimModel" 79 3 23 := ⟨_, _, _, _, "MassclaimModel", fb_3 23 (by decide), q1863, Or.inl rfl⟩
theorem wV_X4_311 : WV "MassclaimModel" 311 yX4_isDefendant cX4_isDefendant 2 (some .boolean) 1 := ⟨lw_V q2237 q2239 qs41 q71 q2240, ⟨by decide, by decide⟩, by decide +kernel⟩
theorem fr_X4_314 : FR "MassclaimModel" 314 8 4 := ⟨_, _, _, _, "MassclaimModel$Defendant", fb_8 4 (by decide), q2221, Or.inl rfl⟩
theorem wS_X1_351 : WS "Massclaim" 351 yX1_first cX1_first 3 (some (.object "Massclaim$Numbered")) 1 := ⟨lw_S q1376 q952 q65 q953, ⟨by decide, by decide⟩, by decide +kernel⟩
theorem wS_X1_347 : WS "Massclaim" 347 yX1_part cX1_part 6 (some .long) 3 := ⟨lw_S q405 q406 q65 q407, ⟨by decide, by decide⟩, by decide +kernel⟩
theorem wF_X1_344_J2 : WF "Massclaim" 344 "java/util/ArrayList" ⟨"java/util/List", "add", "(Ljava/lang/Object;)Z"⟩ yJ2_add cJ2_add 2 (some .boolean) 1 := ⟨lw_app (lw_in _ [1375, 719, 721, 69] (by decide +kernel) (by decide +kernel)) (lw_meth q723), List.mem_of_getElem? (i := 6) rfl, ⟨by decide, by decide⟩, by decide +kernel⟩
theorem wV_X1_355 : WV "Massclaim" 355 yX1_bears cX1_bears 10 (some .boolean) 1 := ⟨lw_V q1370 q1372 qs14 q65 q1373, ⟨by decide, by decide⟩, by decide +kernel⟩
theorem wV_X0_77 : WV "MassclaimLaw" 77 yX1_fail cX1_fail 6 (some .long) 1 := ⟨lw_V q1366 q1367 q1368 q65 q1369, ⟨by decide, by decide⟩, by decide +kernel⟩
theorem fl_X4_314 : FL "MassclaimModel" 314 8 4 .boolean false := ⟨_, _, _, _, "MassclaimModel$Defendant", fb_8 4 (by decide), rfl, rfl, fun q => Bool.noConfusion q, q2221, Or.inl rfl⟩
theorem wV_X4_329 : WV "MassclaimModel" 329 yX4_spread cX4_spread 11 (some .boolean) 1 := ⟨lw_V q2246 q2248 qs42 q71 q2249, ⟨by decide, by decide⟩, by decide +kernel⟩
theorem wV_X0_81 : WV "MassclaimLaw" 81 yX1_defendantAt cX1_defendantAt 4 (some .long) 2 := ⟨lw_V q1380 q1381 q1382 q65 q1383, ⟨by decide, by decide⟩, by decide +kernel⟩
theorem fl_X10_9 : FL "Massclaim$Deal" 9 9 3 .int false := ⟨_, _, _, _, "Massclaim$Deal", fb_9 3 (by decide), rfl, rfl, fun q => Bool.noConfusion q, q1404, Or.inl rfl⟩
theorem fl_X10_15 : FL "Massclaim$Deal" 15 9 0 .int false := ⟨_, _, _, _, "Massclaim$Deal", fb_9 0 (by decide), rfl, rfl, fun q => Bool.noConfusion q, q1398, Or.inl rfl⟩
theorem fl_X10_18 : FL "Massclaim$Deal" 18 9 1 .int true := ⟨_, _, _, _, "Massclaim$Deal", fb_9 1 (by decide), rfl, rfl, fun _ => rfl, q1400, Or.inl rfl⟩
theorem fl_X10_21 : FL "Massclaim$Deal" 21 9 2 .int true := ⟨_, _, _, _, "Massclaim$Deal", fb_9 2 (by decide), rfl, rfl, fun _ => rfl, q1402, Or.inl rfl⟩
theorem fn_X1_362 : FN "Massclaim" 362 4 13 .int false := ⟨_, _, _, _, "Massclaim", fb_4 13 (by decide), rfl, rfl, q628⟩
theorem fn_X1_365 : FN "Massclaim" 365 4 14 .boolean false := ⟨_, _, _, _, "Massclaim", fb_4 14 (by decide), rfl, rfl, q629⟩
theorem nl_X1_119 : NL "Massclaim" 119 9 6 := ⟨_, _, _, _, rfl, by decide, in_X10, tyX10_ok, by decide, q1392, q1393, q98⟩
theorem wI_X1_361 : WI "Massclaim" 361 yX10_init cX10_init 4 3 := ⟨lw_meth q1396, q98, q1394, q1395, rfl, ⟨by decide, by decide⟩, by decide +kernel⟩
theorem wV_X0_84 : WV "MassclaimLaw" 84 yX1_propose cX1_propose 6 (some .int) 3 := ⟨lw_V q1387 q1388 q1389 q65 q1390, ⟨by decide, by decide⟩, by decide +kernel⟩
theorem fl_X4_341 : FL "MassclaimModel" 341 5 15 .int false := ⟨_, _, _, _, "MassclaimModel$Person", fb_5 15 (by decide), rfl, rfl, fun q => Bool.noConfusion q, q2009, Or.inl rfl⟩
theorem fl_X4_344 : FL "MassclaimModel" 344 5 16 .boolean false := ⟨_, _, _, _, "MassclaimModel$Person", fb_5 16 (by decide), rfl, rfl, fun q => Bool.noConfusion q, q2010, Or.inl rfl⟩
theorem fl_X4_335 : FL "MassclaimModel" 335 3 11 .int false := ⟨_, _, _, _, "MassclaimModel", fb_3 11 (by decide), rfl, rfl, fun q => Bool.noConfusion q, q1851, Or.inl rfl⟩
theorem fl_X4_338 : FL "MassclaimModel" 338 3 12 .int false := ⟨_, _, _, _, "MassclaimModel", fb_3 12 (by decide), rfl, rfl, fun q => Bool.noConfusion q, q1852, Or.inl rfl⟩
theorem nl_X1_29 : NL "Massclaim" 29 10 7 := ⟨_, _, _, _, rfl, by decide, in_Ob, tyOb_ok, by decide, q1428, q1440, q99⟩
theorem wI_X1_31 : WI "Massclaim" 31 yX11_init cX11_init 2 1 := ⟨lw_meth q1450, q99, q1448, q1449, rfl, ⟨by decide, by decide⟩, by decide +kernel⟩
theorem wV_X1_371 : WV "Massclaim" 371 yX5_fits cX5_fits 1 (some .boolean) 0 := ⟨lw_V q1468 q558 q559 q80 q560, ⟨by decide, by decide⟩, by decide +kernel⟩
theorem fn_X1_368 : FN "Massclaim" 368 6 3 .boolean true := ⟨_, _, _, _, "Massclaim", fb_6 3 (by decide), rfl, rfl, q918⟩
theorem wS_X1_377 : WS "Massclaim" 377 yX1_look cX1_look 2 none 2 := ⟨lw_S q1437 q1438 q65 q1439, ⟨by decide, by decide⟩, by decide +kernel⟩
theorem fn_X1_394 : FN "Massclaim" 394 9 5 .boolean false := ⟨_, _, _, _, "Massclaim", fb_9 5 (by decide), rfl, rfl, q1407⟩
theorem wV_X1_388 : WV "Massclaim" 388 yX1_areFor cX1_areFor 9 (some .boolean) 0 := ⟨lw_V q1469 q1471 qs18 q65 q1472, ⟨by decide, by decide⟩, by decide +kernel⟩
theorem wV_X1_391 : WV "Massclaim" 391 yX1_objectors cX1_objectors 4 (some .int) 0 := ⟨lw_V q1473 q1475 qs19 q65 q1476, ⟨by decide, by decide⟩, by decide +kernel⟩
theorem wV_X1_384 : WV "Massclaim" 384 yX1_outs cX1_outs 4 (some .int) 0 := ⟨lw_V q1464 q1466 qs17 q65 q1467, ⟨by decide, by decide⟩, by decide +kernel⟩
theorem fn_X1_387 : FN "Massclaim" 387 9 1 .int true := ⟨_, _, _, _, "Massclaim", fb_9 1 (by decide), rfl, rfl, q1401⟩
theorem fn_X1_381 : FN "Massclaim" 381 9 4 .int false := ⟨_, _, _, _, "Massclaim", fb_9 4 (by decide), rfl, rfl, q1406⟩
theorem wV_X1_374 : WV "Massclaim" 374 yX1_reach cX1_reach 4 (some .int) 0 := ⟨lw_V q1433 q1435 qs16 q65 q1436, ⟨by decide, by decide⟩, by decide +kernel⟩
theorem fn_X1_397 : FN "Massclaim" 397 9 0 .int false := ⟨_, _, _, _, "Massclaim", fb_9 0 (by decide), rfl, rfl, q1399⟩
theorem fn_X1_403 : FN "Massclaim" 403 10 0 .int true := ⟨_, _, _, _, "Massclaim", fb_10 0 (by decide), rfl, rfl, q1459⟩
theorem wV_X1_400 : WV "Massclaim" 400 yX1_looksAtDeal cX1_looksAtDeal 1 none 0 := ⟨lw_V q1429 q1431 qs15 q65 q1432, ⟨by decide, by decide⟩, by decide +kernel⟩
theorem wV_X1_406 : WV "Massclaim" 406 yX1_becomesFinal cX1_becomesFinal 8 none 0 := ⟨lw_V q1477 q1479 qs20 q65 q1480, ⟨by decide, by decide⟩, by decide +kernel⟩
theorem wVH_X0_87 : WVH "MassclaimLaw" 87 yX1_approve cX1_approve 2 (some .int) [(24, 28, 31, 29)] 0 := ⟨lw_VW q1424 q1425 q1426 q65 q1427, ⟨by decide, by decide⟩, by decide +kernel⟩
theorem fr_X4_341 : FR "MassclaimModel" 341 5 15 := ⟨_, _, _, _, "MassclaimModel$Person", fb_5 15 (by decide), q2009, Or.inl rfl⟩
theorem fr_X4_60 : FR "MassclaimModel" 60 3 14 := ⟨_, _, _, _, "MassclaimModel", fb_3 14 (by decide), q1854, Or.inl rfl⟩
theorem wV_X4_359 : WV "MassclaimModel" 359 yX4_isCarried cX4_isCarried 6 (some .boolean) 1 := ⟨lw_V q2271 q2273 qs45 q71 q2274, ⟨by decide, by decide⟩, by decide +kernel⟩
theorem fr_X4_344 : FR "MassclaimModel" 344 5 16 := ⟨_, _, _, _, "MassclaimModel$Person", fb_5 16 (by decide), q2010, Or.inl rfl⟩
theorem fr_X4_350 : FR "MassclaimModel" 350 3 13 := ⟨_, _, _, _, "MassclaimModel", fb_3 13 (by decide), q1853, Or.inl rfl⟩
theorem fr_X4_335 : FR "MassclaimModel" 335 3 11 := ⟨_, _, _, _, "MassclaimModel", fb_3 11 (by decide), q1851, Or.inl rfl⟩
theorem fr_X4_56 : FR "MassclaimModel" 56 3 10 := ⟨_, _, _, _, "MassclaimModel", fb_3 10 (by decide), q1850, Or.inl rfl⟩
theorem wV_X4_356 : WV "MassclaimModel" 356 yX4_bind cX4_bind 6 none 0 := ⟨lw_V q2275 q2277 qs46 q71 q2278, ⟨by decide, by decide⟩, by decide +kernel⟩
theorem wV_X4_347 : WV "MassclaimModel" 347 yX4_reach cX4_reach 3 (some .int) 0 := ⟨lw_V q2263 q2265 qs43 q71 q2266, ⟨by decide, by decide⟩, by decide +kernel⟩
theorem wV_X4_353 : WV "MassclaimModel" 353 yX4_wayOf cX4_wayOf 4 (some .int) 0 := ⟨lw_V q2267 q2269 qs44 q71 q2270, ⟨by decide, by decide⟩, by decide +kernel⟩
theorem fl_X4_350 : FL "MassclaimModel" 350 3 13 .int false := ⟨_, _, _, _, "MassclaimModel", fb_3 13 (by decide), rfl, rfl, fun q => Bool.noConfusion q, q1853, Or.inl rfl⟩
theorem wV_X0_91 : WV "MassclaimLaw" 91 yX1_vote cX1_vote 7 (some .int) 2 := ⟨lw_V q1484 q1485 q1486 q65 q1487, ⟨by decide, by decide⟩, by decide +kernel⟩
theorem wV_X0_95 : WV "MassclaimLaw" 95 yX1_object cX1_object 7 (some .int) 2 := ⟨lw_V q1491 q1492 q1493 q65 q1494, ⟨by decide, by decide⟩, by decide +kernel⟩
theorem wV_X1_409 : WV "Massclaim" 409 yX1_owed cX1_owed 5 (some .long) 0 := ⟨lw_V q1502 q1504 qs21 q65 q1505, ⟨by decide, by decide⟩, by decide +kernel⟩
theorem wV_X0_98 : WV "MassclaimLaw" 98 yX1_raise cX1_raise 2 (some .long) 1 := ⟨lw_V q1498 q1499 q1500 q65 q1501, ⟨by decide, by decide⟩, by decide +kernel⟩
theorem wV_X4_362 : WV "MassclaimModel" 362 yX4_owed cX4_owed 4 (some .long) 0 := ⟨lw_V q2291 q2293 qs47 q71 q2294, ⟨by decide, by decide⟩, by decide +kernel⟩
theorem wV_X0_101 : WV "MassclaimLaw" 101 yX1_grid cX1_grid 5 (some .int) 3 := ⟨lw_V q1509 q1510 q1511 q65 q1512, ⟨by decide, by decide⟩, by decide +kernel⟩
theorem fr_X1_99 : FR "Massclaim" 99 0 13 := ⟨_, _, _, _, "Massclaim", fb_0 13 (by decide), q247, Or.inl rfl⟩
theorem wV_X0_104 : WV "MassclaimLaw" 104 yX1_settings cX1_settings 5 (some .int) 3 := ⟨lw_V q1517 q1518 q1519 q65 q1520, ⟨by decide, by decide⟩, by decide +kernel⟩
theorem fr_X4_64 : FR "MassclaimModel" 64 3 16 := ⟨_, _, _, _, "MassclaimModel", fb_3 16 (by decide), q1856, Or.inl rfl⟩
theorem fl_X12_3 : FL "Massclaim$Claim" 3 11 12 (.object "Massclaim") true := ⟨_, _, _, _, "Massclaim$Claim", fb_11 12 (by decide), rfl, rfl, fun _ => rfl, q1565, Or.inl rfl⟩
theorem fl_X12_15 : FL "Massclaim$Claim" 15 11 4 .int false := ⟨_, _, _, _, "Massclaim$Claim", fb_11 4 (by decide), rfl, rfl, fun q => Bool.noConfusion q, q1551, Or.inl rfl⟩
theorem fl_X12_19 : FL "Massclaim$Claim" 19 11 5 .int false := ⟨_, _, _, _, "Massclaim$Claim", fb_11 5 (by decide), rfl, rfl, fun q => Bool.noConfusion q, q1553, Or.inl rfl⟩
theorem nl_X12_22 : NL "Massclaim$Claim" 22 17 3 := ⟨_, _, _, _, rfl, by decide, in_J2, tyJ2_ok, by decide, q1539, q122, q69⟩
theorem wI_X12_24 : WI "Massclaim$Claim" 24 yJ2_init cJ2_init 1 0 := ⟨lw_meth q125, q69, q1540, q124, rfl, ⟨by decide, by decide⟩, by decide +kernel⟩
theorem fl_X12_25 : FL "Massclaim$Claim" 25 11 11 (.object "java/util/List") true := ⟨_, _, _, _, "Massclaim$Claim", fb_11 11 (by decide), rfl, rfl, fun _ => rfl, q1563, Or.inl rfl⟩
theorem fl_X12_29 : FL "Massclaim$Claim" 29 11 0 .int true := ⟨_, _, _, _, "Massclaim$Claim", fb_11 0 (by decide), rfl, rfl, fun _ => rfl, q1544, Or.inl rfl⟩
theorem fl_X12_32 : FL "Massclaim$Claim" 32 11 1 (.object "Massclaim$Person") true := ⟨_, _, _, _, "Massclaim$Claim", fb_11 1 (by decide), rfl, rfl, fun _ => rfl, q1546, Or.inl rfl⟩
theorem fl_X12_36 : FL "Massclaim$Claim" 36 11 2 .int false := ⟨_, _, _, _, "Massclaim$Claim", fb_11 2 (by decide), rfl, rfl, fun q => Bool.noConfusion q, q1548, Or.inl rfl⟩
theorem wS_X12_39 : WS "Massclaim$Claim" 39 yJ10_min_2 cJ10_min_2 2 (some .int) 2 := ⟨lw_S q1541 q785 q79 q786, ⟨by decide, by decide⟩, by decide +kernel⟩
theorem fl_X12_45 : FL "Massclaim$Claim" 45 11 3 .int true := ⟨_, _, _, _, "Massclaim$Claim", fb_11 3 (by decide), rfl, rfl, fun _ => rfl, q1550, Or.inl rfl⟩
theorem fr_X12_25 : FR "Massclaim$Claim" 25 11 11 := ⟨_, _, _, _, "Massclaim$Claim", fb_11 11 (by decide), q1563, Or.inl rfl⟩
theorem fn_X12_48 : FN "Massclaim$Claim" 48 0 18 .int false := ⟨_, _, _, _, "Massclaim", fb_0 18 (by decide), rfl, rfl, q254⟩
theorem wF_X12_51_J2 : WF "Massclaim$Claim" 51 "java/util/ArrayList" ⟨"java/util/List", "add", "(Ljava/lang/Object;)Z"⟩ yJ2_add cJ2_add 2 (some .boolean) 1 := ⟨lw_app (lw_in _ [1543, 719, 721, 69] (by decide +kernel) (by decide +kernel)) (lw_meth q723), List.mem_of_getElem? (i := 6) rfl, ⟨by decide, by decide⟩, by decide +kernel⟩
theorem wF_X12_57_J2 : WF "Massclaim$Claim" 57 "java/util/ArrayList" ⟨"java/util/List", "size", "()I"⟩ yJ2_size cJ2_size 1 (some .int) 0 := ⟨lw_app (lw_in _ [1606, 209, 211, 69] (by decide +kernel) (by decide +kernel)) (lw_meth q213), List.mem_of_getElem? (i := 0) rfl, ⟨by decide, by decide⟩, by decide +kernel⟩
theorem wF_X12_61_J2 : WF "Massclaim$Claim" 61 "java/util/ArrayList" ⟨"java/util/List", "get", "(I)Ljava/lang/Object;"⟩ yJ2_get cJ2_get 2 (some (.object "java/lang/Object")) 1 := ⟨lw_app (lw_in _ [1608, 387, 389, 69] (by decide +kernel) (by decide +kernel)) (lw_meth q391), List.mem_of_getElem? (i := 5) rfl, ⟨by decide, by decide⟩, by decide +kernel⟩
theorem fr_X12_32 : FR "Massclaim$Claim" 32 11 1 := ⟨_, _, _, _, "Massclaim$Claim", fb_11 1 (by decide), q1546, Or.inl rfl⟩
theorem fn_X12_67 : FN "Massclaim$Claim" 67 4 4 .int true := ⟨_, _, _, _, "Massclaim", fb_4 4 (by decide), rfl, rfl, q609⟩
theorem wV_X12_111 : WV "Massclaim$Claim" 111 yX12_lawyer cX12_lawyer 1 (some .int) 0 := ⟨lw_V q1601 q1602 q1603 q100 q1604, ⟨by decide, by decide⟩, by decide +kernel⟩
theorem fn_X12_76 : FN "Massclaim$Claim" 76 4 5 .int false := ⟨_, _, _, _, "Massclaim", fb_4 5 (by decide), rfl, rfl, q611⟩
theorem fn_X12_114 : FN "Massclaim$Claim" 114 4 2 .int true := ⟨_, _, _, _, "Massclaim", fb_4 2 (by decide), rfl, rfl, q605⟩
theorem fn_X1_428 : FN "Massclaim" 428 11 9 .boolean false := ⟨_, _, _, _, "Massclaim", fb_11 9 (by decide), rfl, rfl, q1561⟩
theorem wV_X1_431 : WV "Massclaim" 431 yX12_isLike cX12_isLike 3 (some .boolean) 1 := ⟨lw_V q1597 q1598 q1599 q100 q1600, ⟨by decide, by decide⟩, by decide +kernel⟩
theorem nl_X1_155 : NL "Massclaim" 155 11 13 := ⟨_, _, _, _, rfl, by decide, in_X12, tyX12_ok, by decide, q403, q1534, q100⟩
theorem wI_X1_421 : WI "Massclaim" 421 yX12_init cX12_init 8 6 := ⟨lw_meth q1537, q100, q1535, q1536, rfl, ⟨by decide, by decide⟩, by decide +kernel⟩
theorem wV_X1_424 : WV "Massclaim" 424 yX1_holdRing cX1_holdRing 6 none 1 := ⟨lw_V q1593 q1595 qs22 q65 q1596, ⟨by decide, by decide⟩, by decide +kernel⟩
theorem wS_X1_414 : WS "Massclaim" 414 yX1_isGrade cX1_isGrade 1 (some .boolean) 1 := ⟨lw_S q1528 q1529 q65 q1530, ⟨by decide, by decide⟩, by decide +kernel⟩
theorem wS_X1_418 : WS "Massclaim" 418 yX1_isLawyer cX1_isLawyer 1 (some .boolean) 1 := ⟨lw_S q1531 q1532 q65 q1533, ⟨by decide, by decide⟩, by decide +kernel⟩
theorem wV_X0_107 : WV "MassclaimLaw" 107 yX1_claim cX1_claim 8 (some .int) 4 := ⟨lw_V q1524 q1525 q1526 q65 q1527, ⟨by decide, by decide⟩, by decide +kernel⟩
theorem fl_X13_9 : FL "MassclaimModel$Claim" 9 12 3 .int false := ⟨_, _, _, _, "MassclaimModel$Claim", fb_12 3 (by decide), rfl, rfl, fun q => Bool.noConfusion q, q2318, Or.inl rfl⟩
theorem fl_X13_15 : FL "MassclaimModel$Claim" 15 12 7 .int false := ⟨_, _, _, _, "MassclaimModel$Claim", fb_12 7 (by decide), rfl, rfl, fun q => Bool.noConfusion q, q2323, Or.inl rfl⟩
theorem nl_X13_18 : NL "MassclaimModel$Claim" 18 17 3 := ⟨_, _, _, _, rfl, by decide, in_J2, tyJ2_ok, by decide, q2313, q122, q69⟩
theorem wI_X13_20 : WI "MassclaimModel$Claim" 20 yJ2_init cJ2_init 1 0 := ⟨lw_meth q125, q69, q2314, q124, rfl, ⟨by decide, by decide⟩, by decide +kernel⟩
theorem fl_X13_21 : FL "MassclaimModel$Claim" 21 12 9 (.object "java/util/ArrayList") true := ⟨_, _, _, _, "MassclaimModel$Claim", fb_12 9 (by decide), rfl, rfl, fun _ => rfl, q2326, Or.inl rfl⟩
theorem fr_X13_21 : FR "MassclaimModel$Claim" 21 12 9 := ⟨_, _, _, _, "MassclaimModel$Claim", fb_12 9 (by decide), q2326, Or.inl rfl⟩
theorem wV_X13_25 : WV "MassclaimModel$Claim" 25 yJ2_size cJ2_size 1 (some .int) 0 := ⟨lw_V q2361 q211 q2555 q69 q213, ⟨by decide, by decide⟩, by decide +kernel⟩
theorem wV_X13_29 : WV "MassclaimModel$Claim" 29 yJ2_get cJ2_get 2 (some (.object "java/lang/Object")) 1 := ⟨lw_V q2362 q389 q2556 q69 q391, ⟨by decide, by decide⟩, by decide +kernel⟩
theorem fr_X4_368 : FR "MassclaimModel" 368 12 0 := ⟨_, _, _, _, "MassclaimModel$Claim", fb_12 0 (by decide), q2315, Or.inl rfl⟩
theorem fr_X4_392 : FR "MassclaimModel" 392 12 4 := ⟨_, _, _, _, "MassclaimModel$Claim", fb_12 4 (by decide), q2320, Or.inl rfl⟩
theorem wV_X4_395 : WV "MassclaimModel" 395 yX13_lawyer cX13_lawyer 1 (some .int) 0 := ⟨lw_V q2357 q2358 q2359 q101 q2360, ⟨by decide, by decide⟩, by decide +kernel⟩
theorem wS_X4_398 : WS "MassclaimModel" 398 yX4_isAlike cX4_isAlike 3 (some .boolean) 2 := ⟨lw_S q2354 q2355 q71 q2356, ⟨by decide, by decide⟩, by decide +kernel⟩
theorem nl_X4_124 : NL "MassclaimModel" 124 12 10 := ⟨_, _, _, _, rfl, by decide, in_X13, tyX13_ok, by decide, q1955, q2308, q101⟩
theorem wIN_X4_379 : WIN "MassclaimModel" 379 yX13_init cX13_init 1 0 "MassclaimModel" := ⟨lw_meth q2311, q101, q2309, q2310, rfl, ⟨by decide, by decide⟩, by decide +kernel⟩
theorem fl_X4_368 : FL "MassclaimModel" 368 12 0 (.object "MassclaimModel$Person") false := ⟨_, _, _, _, "MassclaimModel$Claim", fb_12 0 (by decide), rfl, rfl, fun q => Bool.noConfusion q, q2315, Or.inl rfl⟩
theorem fl_X4_373 : FL "MassclaimModel" 373 12 1 .int false := ⟨_, _, _, _, "MassclaimModel$Claim", fb_12 1 (by decide), rfl, rfl, fun q => Bool.noConfusion q, q2316, Or.inl rfl⟩
theorem wS_X4_380 : WS "MassclaimModel" 380 yJ10_min_2 cJ10_min_2 2 (some .int) 2 := ⟨lw_S q2349 q785 q79 q786, ⟨by decide, by decide⟩, by decide +kernel⟩
theorem fl_X4_383 : FL "MassclaimModel" 383 12 2 .int false := ⟨_, _, _, _, "MassclaimModel$Claim", fb_12 2 (by decide), rfl, rfl, fun q => Bool.noConfusion q, q2317, Or.inl rfl⟩
theorem fr_X4_386 : FR "MassclaimModel" 386 12 9 := ⟨_, _, _, _, "MassclaimModel$Claim", fb_12 9 (by decide), q2327, Or.inl rfl⟩
theorem fl_X4_248 : FL "MassclaimModel" 248 5 17 (.object "MassclaimModel$Claim") false := ⟨_, _, _, _, "MassclaimModel$Person", fb_5 17 (by decide), rfl, rfl, fun q => Bool.noConfusion q, q2011, Or.inl rfl⟩
theorem wV_X4_388 : WV "MassclaimModel" 388 yX4_ring cX4_ring 4 none 1 := ⟨lw_V q2350 q2352 qs48 q71 q2353, ⟨by decide, by decide⟩, by decide +kernel⟩
theorem fr_X12_3 : FR "Massclaim$Claim" 3 11 12 := ⟨_, _, _, _, "Massclaim$Claim", fb_11 12 (by decide), q1565, Or.inl rfl⟩
theorem fn_X12_72 : FN "Massclaim$Claim" 72 0 5 (.array (.array .int)) true := ⟨_, _, _, _, "Massclaim", fb_0 5 (by decide), rfl, rfl, q232⟩
theorem fn_X12_79 : FN "Massclaim$Claim" 79 4 6 .int false := ⟨_, _, _, _, "Massclaim", fb_4 6 (by decide), rfl, rfl, q615⟩
theorem wV_X12_82 : WV "Massclaim$Claim" 82 yX5_age cX5_age 2 (some .int) 1 := ⟨lw_V q416 q417 q418 q80 q419, ⟨by decide, by decide⟩, by decide +kernel⟩
theorem wSN_X12_86 : WSN "Massclaim$Claim" 86 yX1_band cX1_band 1 (some .int) 1 "Massclaim" := ⟨lw_meth q422, q65, q420, q421, ⟨by decide, by decide⟩, by decide +kernel⟩
theorem wSN_X12_91 : WSN "Massclaim$Claim" 91 yX1_part cX1_part 6 (some .long) 3 "Massclaim" := ⟨lw_meth q407, q65, q424, q406, ⟨by decide, by decide⟩, by decide +kernel⟩
theorem fn_X12_95 : FN "Massclaim$Claim" 95 0 13 .int false := ⟨_, _, _, _, "Massclaim", fb_0 13 (by decide), rfl, rfl, q246⟩
theorem wS_X12_98 : WS "Massclaim$Claim" 98 yJ10_min cJ10_min 4 (some .long) 2 := ⟨lw_S q425 q426 q79 q427, ⟨by decide, by decide⟩, by decide +kernel⟩
theorem fr_X12_36 : FR "Massclaim$Claim" 36 11 2 := ⟨_, _, _, _, "Massclaim$Claim", fb_11 2 (by decide), q1548, Or.inl rfl⟩
theorem fr_X12_15 : FR "Massclaim$Claim" 15 11 4 := ⟨_, _, _, _, "Massclaim$Claim", fb_11 4 (by decide), q1551, Or.inl rfl⟩
theorem wV_X12_101 : WV "Massclaim$Claim" 101 yX12_value cX12_value 6 (some .int) 0 := ⟨lw_V q1622 q413 q414 q100 q415, ⟨by decide, by decide⟩, by decide +kernel⟩
theorem fr_X12_104 : FR "Massclaim$Claim" 104 11 6 := ⟨_, _, _, _, "Massclaim$Claim", fb_11 6 (by decide), q1556, Or.inl rfl⟩
theorem wS_X12_108 : WS "Massclaim$Claim" 108 yJ10_max_2 cJ10_max_2 4 (some .long) 2 := ⟨lw_S q1623 q1624 q79 q1625, ⟨by decide, by decide⟩, by decide +kernel⟩
theorem wV_X1_437 : WV "Massclaim" 437 yX12_value cX12_value 6 (some .int) 0 := ⟨lw_V q412 q413 q414 q100 q415, ⟨by decide, by decide⟩, by decide +kernel⟩
theorem fn_X1_440 : FN "Massclaim" 440 11 6 .long false := ⟨_, _, _, _, "Massclaim", fb_11 6 (by decide), rfl, rfl, q1557⟩
theorem fr_X1_108 : FR "Massclaim" 108 0 16 := ⟨_, _, _, _, "Massclaim", fb_0 16 (by decide), q250, Or.inl rfl⟩
theorem wV_X1_443 : WV "Massclaim" 443 yX12_due cX12_due 2 (some .long) 1 := ⟨lw_V q1618 q1619 q1620 q100 q1621, ⟨by decide, by decide⟩, by decide +kernel⟩
theorem fn_X1_447 : FN "Massclaim" 447 11 2 .int false := ⟨_, _, _, _, "Massclaim", fb_11 2 (by decide), rfl, rfl, q1549⟩
theorem wV_X1_450 : WV "Massclaim" 450 yX12_lawyer cX12_lawyer 1 (some .int) 0 := ⟨lw_V q1626 q1602 q1603 q100 q1604, ⟨by decide, by decide⟩, by decide +kernel⟩
theorem fn_X1_453 : FN "Massclaim" 453 11 1 (.object "Massclaim$Person") true := ⟨_, _, _, _, "Massclaim", fb_11 1 (by decide), rfl, rfl, q1547⟩
theorem wV_X0_110 : WV "MassclaimLaw" 110 yX1_claimAt cX1_claimAt 4 (some .int) 2 := ⟨lw_V q1613 q1614 q1615 q65 q1616, ⟨by decide, by decide⟩, by decide +kernel⟩
theorem wS_X4_376 : WS "MassclaimModel" 376 yX4_bandOf cX4_bandOf 1 (some .int) 1 := ⟨lw_S q2379 q2380 q71 q2381, ⟨by decide, by decide⟩, by decide +kernel⟩
theorem fr_X4_373 : FR "MassclaimModel" 373 12 1 := ⟨_, _, _, _, "MassclaimModel$Claim", fb_12 1 (by decide), q2316, Or.inl rfl⟩
theorem wV_X4_402 : WV "MassclaimModel" 402 yX4_value cX4_value 10 (some .long) 1 := ⟨lw_V q2373 q2375 qs50 q71 q2376, ⟨by decide, by decide⟩, by decide +kernel⟩
theorem fr_X4_406 : FR "MassclaimModel" 406 12 8 := ⟨_, _, _, _, "MassclaimModel$Claim", fb_12 8 (by decide), q2325, Or.inl rfl⟩
theorem wS_X4_409 : WS "MassclaimModel" 409 yJ10_max_2 cJ10_max_2 4 (some .long) 2 := ⟨lw_S q2386 q1624 q79 q1625, ⟨by decide, by decide⟩, by decide +kernel⟩
theorem wV_X4_416 : WV "MassclaimModel" 416 yX4_isClaim cX4_isClaim 2 (some .boolean) 1 := ⟨lw_V q2368 q2370 qs49 q71 q2371, ⟨by decide, by decide⟩, by decide +kernel⟩
theorem fr_X4_73 : FR "MassclaimModel" 73 3 19 := ⟨_, _, _, _, "MassclaimModel", fb_3 19 (by decide), q1859, Or.inl rfl⟩
theorem wV_X4_412 : WV "MassclaimModel" 412 yX4_due cX4_due 3 (some .long) 2 := ⟨lw_V q2382 q2384 qs51 q71 q2385, ⟨by decide, by decide⟩, by decide +kernel⟩
theorem fn_X1_457 : FN "Massclaim" 457 11 11 (.object "java/util/List") true := ⟨_, _, _, _, "Massclaim", fb_11 11 (by decide), rfl, rfl, q1564⟩
theorem wV_X0_113 : WV "MassclaimLaw" 113 yX1_takeOver cX1_takeOver 6 (some .int) 2 := ⟨lw_V q1630 q1631 q1632 q65 q1633, ⟨by decide, by decide⟩, by decide +kernel⟩
theorem fn_X1_462 : FN "Massclaim" 462 11 5 .int false := ⟨_, _, _, _, "Massclaim", fb_11 5 (by decide), rfl, rfl, q1555⟩
theorem wV_X0_116 : WV "MassclaimLaw" 116 yX1_parts cX1_parts 5 (some .int) 2 := ⟨lw_V q1637 q1638 q1639 q65 q1640, ⟨by decide, by decide⟩, by decide +kernel⟩
theorem fr_X4_423 : FR "MassclaimModel" 423 12 7 := ⟨_, _, _, _, "MassclaimModel$Claim", fb_12 7 (by decide), q2324, Or.inl rfl⟩
theorem fl_X4_423 : FL "MassclaimModel" 423 12 7 .int false := ⟨_, _, _, _, "MassclaimModel$Claim", fb_12 7 (by decide), rfl, rfl, fun q => Bool.noConfusion q, q2324, Or.inl rfl⟩
theorem wV_X0_119 : WV "MassclaimLaw" 119 yX1_cure cX1_cure 4 (some .int) 2 := ⟨lw_V q1645 q1646 q1647 q65 q1648, ⟨by decide, by decide⟩, by decide +kernel⟩
theorem fl_X4_129 : FL "MassclaimModel" 129 12 6 .int false := ⟨_, _, _, _, "MassclaimModel$Claim", fb_12 6 (by decide), rfl, rfl, fun q => Bool.noConfusion q, q2322, Or.inl rfl⟩
theorem wV_X0_122 : WV "MassclaimLaw" 122 yX1_sample cX1_sample 5 (some .int) 1 := ⟨lw_V q1652 q1653 q1654 q65 q1655, ⟨by decide, by decide⟩, by decide +kernel⟩
theorem wV_X0_125 : WV "MassclaimLaw" 125 yX1_audit cX1_audit 4 (some .int) 2 := ⟨lw_V q1659 q1660 q1661 q65 q1662, ⟨by decide, by decide⟩, by decide +kernel⟩
theorem fl_X4_392 : FL "MassclaimModel" 392 12 4 .boolean false := ⟨_, _, _, _, "MassclaimModel$Claim", fb_12 4 (by decide), rfl, rfl, fun q => Bool.noConfusion q, q2320, Or.inl rfl⟩
theorem fn_X1_465 : FN "Massclaim" 465 11 10 .boolean false := ⟨_, _, _, _, "Massclaim", fb_11 10 (by decide), rfl, rfl, q1562⟩
theorem wV_X0_128 : WV "MassclaimLaw" 128 yX1_appeal cX1_appeal 4 (some .int) 2 := ⟨lw_V q1666 q1667 q1668 q65 q1669, ⟨by decide, by decide⟩, by decide +kernel⟩
theorem fl_X4_426 : FL "MassclaimModel" 426 12 5 .boolean false := ⟨_, _, _, _, "MassclaimModel$Claim", fb_12 5 (by decide), rfl, rfl, fun q => Bool.noConfusion q, q2321, Or.inl rfl⟩
theorem fr_X4_426 : FR "MassclaimModel" 426 12 5 := ⟨_, _, _, _, "MassclaimModel$Claim", fb_12 5 (by decide), q2321, Or.inl rfl⟩
theorem fr_X1_102 : FR "Massclaim" 102 0 14 := ⟨_, _, _, _, "Massclaim", fb_0 14 (by decide), q248, Or.inl rfl⟩
theorem wS_X1_468 : WS "Massclaim" 468 yX1_band cX1_band 1 (some .int) 1 := ⟨lw_S q1685 q421 q65 q422, ⟨by decide, by decide⟩, by decide +kernel⟩
theorem wV_X1_471 : WV "Massclaim" 471 yX1_due cX1_due 6 (some .long) 1 := ⟨lw_V q1677 q1679 qs23 q65 q1680, ⟨by decide, by decide⟩, by decide +kernel⟩
theorem wV_X1_472 : WV "Massclaim" 472 yX1_reserve cX1_reserve 7 (some .long) 1 := ⟨lw_V q1681 q1683 qs24 q65 q1684, ⟨by decide, by decide⟩, by decide +kernel⟩
theorem wV_X0_131 : WV "MassclaimLaw" 131 yX1_percent cX1_percent 3 (some .boolean) 1 := ⟨lw_V q1673 q1674 q1675 q65 q1676, ⟨by decide, by decide⟩, by decide +kernel⟩
theorem fr_X4_67 : FR "MassclaimModel" 67 3 17 := ⟨_, _, _, _, "MassclaimModel", fb_3 17 (by decide), q1857, Or.inl rfl⟩
theorem wV_X4_429 : WV "MassclaimModel" 429 yX4_allDue cX4_allDue 5 (some .long) 1 := ⟨lw_V q2417 q2419 qs52 q71 q2420, ⟨by decide, by decide⟩, by decide +kernel⟩
theorem wV_X4_433 : WV "MassclaimModel" 433 yX4_reserve cX4_reserve 6 (some .long) 1 := ⟨lw_V q2421 q2423 qs53 q71 q2424, ⟨by decide, by decide⟩, by decide +kernel⟩
theorem fn_X12_123 : FN "Massclaim$Claim" 123 0 8 (.object "Massclaim$Out") false := ⟨_, _, _, _, "Massclaim", fb_0 8 (by decide), rfl, rfl, q236⟩
theorem fn_X12_155 : FN "Massclaim$Claim" 155 2 1 (.array .long) true := ⟨_, _, _, _, "Massclaim", fb_2 1 (by decide), rfl, rfl, q169⟩
theorem fn_X12_172 : FN "Massclaim$Claim" 172 15 3 .int false := ⟨_, _, _, _, "Massclaim", fb_15 3 (by decide), rfl, rfl, q1761⟩
theorem fn_X12_179 : FN "Massclaim$Claim" 179 2 2 .long false := ⟨_, _, _, _, "Massclaim", fb_2 2 (by decide), rfl, rfl, q172⟩
theorem fn_X12_158 : FN "Massclaim$Claim" 158 0 4 (.object "Massclaim$Row") true := ⟨_, _, _, _, "Massclaim", fb_0 4 (by decide), rfl, rfl, q229⟩
theorem wV_X12_162 : WV "Massclaim$Claim" 162 yX2_size cX2_size 1 (some .int) 0 := ⟨lw_V q1706 q443 q444 q66 q445, ⟨by decide, by decide⟩, by decide +kernel⟩
theorem wV_X12_165 : WV "Massclaim$Claim" 165 yX2_at cX2_at 2 (some (.object "Massclaim$Numbered")) 1 := ⟨lw_V q1707 q528 q529 q66 q530, ⟨by decide, by decide⟩, by decide +kernel⟩
theorem fn_X12_171 : FN "Massclaim$Claim" 171 15 1 (.object "Massclaim$Person") true := ⟨_, _, _, _, "Massclaim", fb_15 1 (by decide), rfl, rfl, q1755⟩
theorem fn_X12_175 : FN "Massclaim$Claim" 175 15 2 .boolean true := ⟨_, _, _, _, "Massclaim", fb_15 2 (by decide), rfl, rfl, q1759⟩
theorem fl_X14_3 : FL "Massclaim$Yearly" 3 13 3 (.object "Massclaim") true := ⟨_, _, _, _, "Massclaim$Yearly", fb_13 3 (by decide), rfl, rfl, fun _ => rfl, q1724, Or.inl rfl⟩
theorem fl_X14_19 : FL "Massclaim$Yearly" 19 13 2 .int true := ⟨_, _, _, _, "Massclaim$Yearly", fb_13 2 (by decide), rfl, rfl, fun _ => rfl, q1723, Or.inl rfl⟩
theorem fr_X5_150 : FR "Massclaim$Person" 150 4 15 := ⟨_, _, _, _, "Massclaim$Person", fb_4 15 (by decide), q630, Or.inl rfl⟩
theorem fn_X5_154 : FN "Massclaim$Person" 154 11 5 .int false := ⟨_, _, _, _, "Massclaim", fb_11 5 (by decide), rfl, rfl, q1554⟩
theorem nl_X5_115 : NL "Massclaim$Person" 115 13 4 := ⟨_, _, _, _, rfl, by decide, in_X14, tyX14_ok, by decide, q402, q1715, q102⟩
theorem wI_X5_159 : WI "Massclaim$Person" 159 yX14_init cX14_init 5 3 := ⟨lw_meth q1718, q102, q1716, q1717, rfl, ⟨by decide, by decide⟩, by decide +kernel⟩
theorem fr_X5_178 : FR "Massclaim$Person" 178 4 18 := ⟨_, _, _, _, "Massclaim$Person", fb_4 18 (by decide), q637, Or.inl rfl⟩
theorem wV_X5_181 : WV "Massclaim$Person" 181 yX5_openLiens cX5_openLiens 4 (some .long) 0 := ⟨lw_V q1738 q987 q988 q80 q989, ⟨by decide, by decide⟩, by decide +kernel⟩
theorem fl_X5_178 : FL "Massclaim$Person" 178 4 18 .long false := ⟨_, _, _, _, "Massclaim$Person", fb_4 18 (by decide), rfl, rfl, fun q => Bool.noConfusion q, q637, Or.inl rfl⟩
theorem wV_X5_184 : WV "Massclaim$Person" 184 yX5_deliver cX5_deliver 5 none 1 := ⟨lw_V q1739 q1712 q1713 q80 q1714, ⟨by decide, by decide⟩, by decide +kernel⟩
theorem fn_X12_146 : FN "Massclaim$Claim" 146 4 18 .long false := ⟨_, _, _, _, "Massclaim", fb_4 18 (by decide), rfl, rfl, q636⟩
theorem wV_X12_149 : WV "Massclaim$Claim" 149 yX5_deliver cX5_deliver 5 none 1 := ⟨lw_V q1711 q1712 q1713 q80 q1714, ⟨by decide, by decide⟩, by decide +kernel⟩
theorem wV_X12_152 : WV "Massclaim$Claim" 152 yX5_releases cX5_releases 3 none 0 := ⟨lw_V q1734 q1735 q1736 q80 q1737, ⟨by decide, by decide⟩, by decide +kernel⟩
theorem fl_X12_104 : FL "Massclaim$Claim" 104 11 6 .long false := ⟨_, _, _, _, "Massclaim$Claim", fb_11 6 (by decide), rfl, rfl, fun q => Bool.noConfusion q, q1556, Or.inl rfl⟩
theorem fr_X12_115 : FR "Massclaim$Claim" 115 11 7 := ⟨_, _, _, _, "Massclaim$Claim", fb_11 7 (by decide), q1558, Or.inl rfl⟩
theorem fl_X12_115 : FL "Massclaim$Claim" 115 11 7 .long false := ⟨_, _, _, _, "Massclaim$Claim", fb_11 7 (by decide), rfl, rfl, fun q => Bool.noConfusion q, q1558, Or.inl rfl⟩
theorem fn_X12_118 : FN "Massclaim$Claim" 118 0 17 .long false := ⟨_, _, _, _, "Massclaim", fb_0 17 (by decide), rfl, rfl, q251⟩
theorem fn_X12_127 : FN "Massclaim$Claim" 127 2 0 .long false := ⟨_, _, _, _, "Massclaim", fb_2 0 (by decide), rfl, rfl, q166⟩
theorem fr_X12_45 : FR "Massclaim$Claim" 45 11 3 := ⟨_, _, _, _, "Massclaim$Claim", fb_11 3 (by decide), q1550, Or.inl rfl⟩
theorem wV_X12_132 : WV "Massclaim$Claim" 132 yX12_payLawyers cX12_payLawyers 9 none 1 := ⟨lw_V q1698 q1700 qs25 q100 q1701, ⟨by decide, by decide⟩, by decide +kernel⟩
theorem wV_X12_136 : WV "Massclaim$Claim" 136 yX12_payLiens cX12_payLiens 8 (some .long) 1 := ⟨lw_V q1702 q1704 qs26 q100 q1705, ⟨by decide, by decide⟩, by decide +kernel⟩
theorem wV_X12_140 : WV "Massclaim$Claim" 140 yX5_openLiens cX5_openLiens 4 (some .long) 0 := ⟨lw_V q1709 q987 q988 q80 q989, ⟨by decide, by decide⟩, by decide +kernel⟩
theorem wV_X1_475 : WV "Massclaim" 475 yX12_gets cX12_gets 11 none 1 := ⟨lw_V q1693 q1694 q1695 q100 q1696, ⟨by decide, by decide⟩, by decide +kernel⟩
theorem fr_X1_105 : FR "Massclaim" 105 0 15 := ⟨_, _, _, _, "Massclaim", fb_0 15 (by decide), q249, Or.inl rfl⟩
theorem wV_X0_134 : WV "MassclaimLaw" 134 yX1_pay cX1_pay 15 (some .long) 0 := ⟨lw_V q1689 q1690 q1691 q65 q1692, ⟨by decide, by decide⟩, by decide +kernel⟩
theorem fl_X4_262 : FL "MassclaimModel" 262 16 1 .int false := ⟨_, _, _, _, "MassclaimModel$Lien", fb_16 1 (by decide), rfl, rfl, fun q => Bool.noConfusion q, q2481, Or.inl rfl⟩
theorem fr_X4_85 : FR "MassclaimModel" 85 3 26 := ⟨_, _, _, _, "MassclaimModel", fb_3 26 (by decide), q1866, Or.inl rfl⟩
theorem fr_X4_455 : FR "MassclaimModel" 455 16 2 := ⟨_, _, _, _, "MassclaimModel$Lien", fb_16 2 (by decide), q2482, Or.inl rfl⟩
theorem fl_X15_7 : FL "MassclaimModel$Row" 7 14 0 .long false := ⟨_, _, _, _, "MassclaimModel$Row", fb_14 0 (by decide), rfl, rfl, fun q => Bool.noConfusion q, q2451, Or.inl rfl⟩
theorem fl_X15_13 : FL "MassclaimModel$Row" 13 14 1 .int false := ⟨_, _, _, _, "MassclaimModel$Row", fb_14 1 (by decide), rfl, rfl, fun q => Bool.noConfusion q, q2453, Or.inl rfl⟩
theorem fl_X15_17 : FL "MassclaimModel$Row" 17 14 2 .int true := ⟨_, _, _, _, "MassclaimModel$Row", fb_14 2 (by decide), rfl, rfl, fun _ => rfl, q2455, Or.inl rfl⟩
theorem nl_X4_153 : NL "MassclaimModel" 153 14 4 := ⟨_, _, _, _, rfl, by decide, in_X15, tyX15_ok, by decide, q1971, q2446, q103⟩
theorem wI_X4_458 : WI "MassclaimModel" 458 yX15_init cX15_init 5 3 := ⟨lw_meth q2449, q103, q2447, q2448, rfl, ⟨by decide, by decide⟩, by decide +kernel⟩
theorem fl_X4_267 : FL "MassclaimModel" 267 5 20 .long false := ⟨_, _, _, _, "MassclaimModel$Person", fb_5 20 (by decide), rfl, rfl, fun q => Bool.noConfusion q, q2014, Or.inl rfl⟩
theorem wV_X4_449 : WV "MassclaimModel" 449 yX4_deliver cX4_deliver 5 none 2 := ⟨lw_V q2442 q2444 qs57 q71 q2445, ⟨by decide, by decide⟩, by decide +kernel⟩
theorem fl_X4_406 : FL "MassclaimModel" 406 12 8 .long false := ⟨_, _, _, _, "MassclaimModel$Claim", fb_12 8 (by decide), rfl, rfl, fun q => Bool.noConfusion q, q2325, Or.inl rfl⟩
theorem fr_X4_82 : FR "MassclaimModel" 82 3 24 := ⟨_, _, _, _, "MassclaimModel", fb_3 24 (by decide), q1864, Or.inl rfl⟩
theorem fr_X4_383 : FR "MassclaimModel" 383 12 2 := ⟨_, _, _, _, "MassclaimModel$Claim", fb_12 2 (by decide), q2317, Or.inl rfl⟩
theorem wV_X4_442 : WV "MassclaimModel" 442 yX4_payLawyers cX4_payLawyers 12 none 2 := ⟨lw_V q2434 q2436 qs55 q71 q2437, ⟨by decide, by decide⟩, by decide +kernel⟩
theorem wV_X4_445 : WV "MassclaimModel" 445 yX4_payLiens cX4_payLiens 10 (some .long) 2 := ⟨lw_V q2438 q2440 qs56 q71 q2441, ⟨by decide, by decide⟩, by decide +kernel⟩
theorem wV_X4_452 : WV "MassclaimModel" 452 yX4_freeHeld cX4_freeHeld 4 none 1 := ⟨lw_V q2467 q2469 qs58 q71 q2470, ⟨by decide, by decide⟩, by decide +kernel⟩
theorem wV_X4_436 : WV "MassclaimModel" 436 yX4_payOut cX4_payOut 12 none 2 := ⟨lw_V q2429 q2431 qs54 q71 q2432, ⟨by decide, by decide⟩, by decide +kernel⟩
theorem fr_X4_70 : FR "MassclaimModel" 70 3 18 := ⟨_, _, _, _, "MassclaimModel", fb_3 18 (by decide), q1858, Or.inl rfl⟩
theorem fl_X16_7 : FL "Massclaim$Lien" 7 15 0 .int true := ⟨_, _, _, _, "Massclaim$Lien", fb_15 0 (by decide), rfl, rfl, fun _ => rfl, q1753, Or.inl rfl⟩
theorem fl_X16_13 : FL "Massclaim$Lien" 13 15 1 (.object "Massclaim$Person") true := ⟨_, _, _, _, "Massclaim$Lien", fb_15 1 (by decide), rfl, rfl, fun _ => rfl, q1754, Or.inl rfl⟩
theorem fl_X16_17 : FL "Massclaim$Lien" 17 15 3 .int false := ⟨_, _, _, _, "Massclaim$Lien", fb_15 3 (by decide), rfl, rfl, fun q => Bool.noConfusion q, q1760, Or.inl rfl⟩
theorem fl_X16_20 : FL "Massclaim$Lien" 20 15 2 .boolean true := ⟨_, _, _, _, "Massclaim$Lien", fb_15 2 (by decide), rfl, rfl, fun _ => rfl, q1758, Or.inl rfl⟩
theorem nl_X1_476 : NL "Massclaim" 476 15 4 := ⟨_, _, _, _, rfl, by decide, in_X16, tyX16_ok, by decide, q1747, q1748, q104⟩
theorem wI_X1_478 : WI "Massclaim" 478 yX16_init cX16_init 5 4 := ⟨lw_meth q1751, q104, q1749, q1750, rfl, ⟨by decide, by decide⟩, by decide +kernel⟩
theorem wV_X0_138 : WV "MassclaimLaw" 138 yX1_lien cX1_lien 5 (some .int) 3 := ⟨lw_V q1743 q1744 q1745 q65 q1746, ⟨by decide, by decide⟩, by decide +kernel⟩
theorem nl_X4_256 : NL "MassclaimModel" 256 16 3 := ⟨_, _, _, _, rfl, by decide, in_X17, tyX17_ok, by decide, q2161, q2475, q105⟩
theorem wIN_X4_461 : WIN "MassclaimModel" 461 yX17_init cX17_init 1 0 "MassclaimModel" := ⟨lw_meth q2478, q105, q2476, q2477, rfl, ⟨by decide, by decide⟩, by decide +kernel⟩
theorem fl_X4_258 : FL "MassclaimModel" 258 16 0 (.object "MassclaimModel$Person") false := ⟨_, _, _, _, "MassclaimModel$Lien", fb_16 0 (by decide), rfl, rfl, fun q => Bool.noConfusion q, q2480, Or.inl rfl⟩
theorem fl_X4_455 : FL "MassclaimModel" 455 16 2 .boolean false := ⟨_, _, _, _, "MassclaimModel$Lien", fb_16 2 (by decide), rfl, rfl, fun q => Bool.noConfusion q, q2482, Or.inl rfl⟩
theorem fn_X1_481 : FN "Massclaim" 481 15 3 .int false := ⟨_, _, _, _, "Massclaim", fb_15 3 (by decide), rfl, rfl, q1763⟩
theorem fn_X1_484 : FN "Massclaim" 484 15 1 (.object "Massclaim$Person") true := ⟨_, _, _, _, "Massclaim", fb_15 1 (by decide), rfl, rfl, q1757⟩
theorem wV_X1_485 : WV "Massclaim" 485 yX5_releases cX5_releases 3 none 0 := ⟨lw_V q1780 q1735 q1736 q80 q1737, ⟨by decide, by decide⟩, by decide +kernel⟩
theorem wV_X0_141 : WV "MassclaimLaw" 141 yX1_waive cX1_waive 4 (some .int) 1 := ⟨lw_V q1776 q1777 q1778 q65 q1779, ⟨by decide, by decide⟩, by decide +kernel⟩
theorem fn_X1_488 : FN "Massclaim" 488 9 2 .int true := ⟨_, _, _, _, "Massclaim", fb_9 2 (by decide), rfl, rfl, q1403⟩
theorem fr_X1_74 : FR "Massclaim" 74 0 8 := ⟨_, _, _, _, "Massclaim", fb_0 8 (by decide), q237, Or.inl rfl⟩
theorem fn_X1_491 : FN "Massclaim" 491 2 4 .long false := ⟨_, _, _, _, "Massclaim", fb_2 4 (by decide), rfl, rfl, q178⟩
theorem fn_X1_494 : FN "Massclaim" 494 2 5 .long false := ⟨_, _, _, _, "Massclaim", fb_2 5 (by decide), rfl, rfl, q180⟩
theorem wV_X0_144 : WV "MassclaimLaw" 144 yX1_end cX1_end 6 (some .long) 0 := ⟨lw_V q1784 q1785 q1786 q65 q1787, ⟨by decide, by decide⟩, by decide +kernel⟩
theorem fr_X4_88 : FR "MassclaimModel" 88 3 27 := ⟨_, _, _, _, "MassclaimModel", fb_3 27 (by decide), q1867, Or.inl rfl⟩
theorem fr_X4_338 : FR "MassclaimModel" 338 3 12 := ⟨_, _, _, _, "MassclaimModel", fb_3 12 (by decide), q1852, Or.inl rfl⟩
theorem fr_X4_91 : FR "MassclaimModel" 91 3 28 := ⟨_, _, _, _, "MassclaimModel", fb_3 28 (by decide), q1868, Or.inl rfl⟩
theorem wV_X4_462 : WV "MassclaimModel" 462 yX4_in cX4_in 4 (some .int) 1 := ⟨lw_V q2498 q2500 qs59 q71 q2501, ⟨by decide, by decide⟩, by decide +kernel⟩
theorem fr_X3_9 : FR "Massclaim$Out" 9 2 1 := ⟨_, _, _, _, "Massclaim$Out", fb_2 1 (by decide), q168, Or.inl rfl⟩
theorem wS_X1_496 : WS "Massclaim" 496 yJ10_abs cJ10_abs 2 (some .long) 1 := ⟨lw_S q1801 q1802 q79 q1803, ⟨by decide, by decide⟩, by decide +kernel⟩
theorem wV_X1_502 : WV "Massclaim" 502 yX1_paidIn cX1_paidIn 5 (some .long) 0 := ⟨lw_V q304 q306 qs1 q65 q307, ⟨by decide, by decide⟩, by decide +kernel⟩
theorem fn_X1_505 : FN "Massclaim" 505 2 0 .long false := ⟨_, _, _, _, "Massclaim", fb_2 0 (by decide), rfl, rfl, q167⟩
theorem wV_X1_508 : WV "Massclaim" 508 yX3_lawyers cX3_lawyers 8 (some .long) 0 := ⟨lw_V q1796 q369 q370 q70 q371, ⟨by decide, by decide⟩, by decide +kernel⟩
theorem fn_X1_510 : FN "Massclaim" 510 2 2 .long false := ⟨_, _, _, _, "Massclaim", fb_2 2 (by decide), rfl, rfl, q173⟩
theorem fn_X1_512 : FN "Massclaim" 512 2 3 .long false := ⟨_, _, _, _, "Massclaim", fb_2 3 (by decide), rfl, rfl, q176⟩
theorem wV_X1_514 : WV "Massclaim" 514 yX1_lying cX1_lying 5 (some .long) 0 := ⟨lw_V q372 q374 qs2 q65 q375, ⟨by decide, by decide⟩, by decide +kernel⟩
theorem wV_X1_517 : WV "Massclaim" 517 yX1_differs cX1_differs 5 (some .long) 0 := ⟨lw_V q1797 q1799 qs27 q65 q1800, ⟨by decide, by decide⟩, by decide +kernel⟩
theorem wV_X0_147 : WV "MassclaimLaw" 147 yX1_fundAt cX1_fundAt 2 (some .long) 1 := ⟨lw_V q1791 q1792 q1793 q65 q1794, ⟨by decide, by decide⟩, by decide +kernel⟩
theorem wS_X4_475 : WS "MassclaimModel" 475 yJ10_abs cJ10_abs 2 (some .long) 1 := ⟨lw_S q2519 q1802 q79 q1803, ⟨by decide, by decide⟩, by decide +kernel⟩
theorem wV_X4_467 : WV "MassclaimModel" 467 yX4_delivered cX4_delivered 4 (some .long) 0 := ⟨lw_V q2507 q2509 qs60 q71 q2510, ⟨by decide, by decide⟩, by decide +kernel⟩
theorem wV_X4_469 : WV "MassclaimModel" 469 yX4_lies cX4_lies 4 (some .long) 0 := ⟨lw_V q2511 q2513 qs61 q71 q2514, ⟨by decide, by decide⟩, by decide +kernel⟩
theorem wV_X4_472 : WV "MassclaimModel" 472 yX4_apart cX4_apart 5 (some .long) 0 := ⟨lw_V q2515 q2517 qs62 q71 q2518, ⟨by decide, by decide⟩, by decide +kernel⟩
theorem fn_X1_520 : FN "Massclaim" 520 2 1 (.array .long) true := ⟨_, _, _, _, "Massclaim", fb_2 1 (by decide), rfl, rfl, q170⟩
theorem wV_X0_150 : WV "MassclaimLaw" 150 yX1_lawyerAt cX1_lawyerAt 2 (some .long) 1 := ⟨lw_V q1807 q1808 q1809 q65 q1810, ⟨by decide, by decide⟩, by decide +kernel⟩
theorem wV_X1_522 : WV "Massclaim" 522 yX1_openLiens cX1_openLiens 4 (some .int) 0 := ⟨lw_V q1818 q1820 qs28 q65 q1821, ⟨by decide, by decide⟩, by decide +kernel⟩
theorem wV_X0_153 : WV "MassclaimLaw" 153 yX1_count cX1_count 6 (some .int) 1 := ⟨lw_V q1814 q1815 q1816 q65 q1817, ⟨by decide, by decide⟩, by decide +kernel⟩
theorem wV_X4_479 : WV "MassclaimModel" 479 yX4_openLiens cX4_openLiens 3 (some .int) 0 := ⟨lw_V q2528 q2530 qs63 q71 q2531, ⟨by decide, by decide⟩, by decide +kernel⟩
theorem fr_X3_15 : FR "Massclaim$Out" 15 2 0 := ⟨_, _, _, _, "Massclaim$Out", fb_2 0 (by decide), q165, Or.inl rfl⟩
theorem wV_X3_19 : WV "Massclaim$Out" 19 yX3_lawyers cX3_lawyers 8 (some .long) 0 := ⟨lw_V q368 q369 q370 q70 q371, ⟨by decide, by decide⟩, by decide +kernel⟩
theorem fr_X3_22 : FR "Massclaim$Out" 22 2 2 := ⟨_, _, _, _, "Massclaim$Out", fb_2 2 (by decide), q171, Or.inl rfl⟩
theorem fr_X3_25 : FR "Massclaim$Out" 25 2 3 := ⟨_, _, _, _, "Massclaim$Out", fb_2 3 (by decide), q174, Or.inl rfl⟩
theorem fr_X3_28 : FR "Massclaim$Out" 28 2 4 := ⟨_, _, _, _, "Massclaim$Out", fb_2 4 (by decide), q177, Or.inl rfl⟩
theorem fr_X3_31 : FR "Massclaim$Out" 31 2 5 := ⟨_, _, _, _, "Massclaim$Out", fb_2 5 (by decide), q179, Or.inl rfl⟩
theorem fn_X1_527 : FN "Massclaim" 527 11 7 .long false := ⟨_, _, _, _, "Massclaim", fb_11 7 (by decide), rfl, rfl, q1559⟩
theorem wV_X1_524 : WV "Massclaim" 524 yX3_all cX3_all 1 (some .long) 0 := ⟨lw_V q364 q365 q366 q70 q367, ⟨by decide, by decide⟩, by decide +kernel⟩
theorem wS_J22_59 : WS "java/lang/Float" 59 yJ22_isNaN cJ22_isNaN 1 (some .boolean) 1 := ⟨lw_S q431 q432 q106 q433, ⟨by decide, by decide⟩, by decide +kernel⟩
theorem wS_X1_530 : WS "Massclaim" 530 yJ22_floatToIntBits cJ22_floatToIntBits 1 (some .int) 1 := ⟨lw_S q428 q429 q106 q430, ⟨by decide, by decide⟩, by decide +kernel⟩
theorem wS_X4_482 : WS "MassclaimModel" 482 yJ22_floatToIntBits cJ22_floatToIntBits 1 (some .int) 1 := ⟨lw_S q2540 q429 q106 q430, ⟨by decide, by decide⟩, by decide +kernel⟩
