set_option maxRecDepth 100000
abbrev mX1_init : zMt := (yX1_init, cX1_init, 1, none)
theorem zmh_X1_init : zmh yX1_init 0 := ⟨⟨by decide +kernel, by decide +kernel⟩, by decide +kernel⟩
def v_X1_init (r0 : Nat × Nat) (M : Mem) (Q : Mem → Prop) : Prop := ¬ r0.1 = 0 ∧ (kt r0.1 = 1 ∧ (∀ M_1 : Mem, M_1 = sI M r0.1 r0.2 0 0 → (kt r0.1 = 1 ∧ (∀ M_2 : Mem, M_2 = sI M_1 r0.1 r0.2 1 0 → (¬ (8 : Int32) < 0 ∧ (8 : Int32).toNatClampNeg ≤ 100000 ∧ rom M_2 (8 : Int32).toNatClampNeg ∧ (∃ i_3 : Nat, M_2.2.2.1 102 i_3 = 0 ∧ ∀ M_4 : Mem, M_4 = sN M_2 102 i_3 (8 : Int32).toNatClampNeg (8 : Int32).toNatClampNeg → (kt r0.1 = 1 ∧ (∀ M_5 : Mem, M_5 = sR M_4 r0.1 r0.2 2 (102, i_3) → (¬ (8 : Int32) < 0 ∧ (8 : Int32).toNatClampNeg ≤ 100000 ∧ rom M_5 (8 : Int32).toNatClampNeg ∧ (∃ i_6 : Nat, M_5.2.2.1 103 i_6 = 0 ∧ ∀ M_7 : Mem, M_7 = sN M_5 103 i_6 (8 : Int32).toNatClampNeg (8 : Int32).toNatClampNeg → (kt r0.1 = 1 ∧ (∀ M_8 : Mem, M_8 = sR M_7 r0.1 r0.2 3 (103, i_6) → (¬ (8 : Int32) < 0 ∧ (8 : Int32).toNatClampNeg ≤ 100000 ∧ rom M_8 (8 : Int32).toNatClampNeg ∧ (∃ i_9 : Nat, M_8.2.2.1 104 i_9 = 0 ∧ ∀ M_10 : Mem, M_10 = sN M_8 104 i_9 (8 : Int32).toNatClampNeg (8 : Int32).toNatClampNeg → (kt r0.1 = 1 ∧ (∀ M_11 : Mem, M_11 = sR M_10 r0.1 r0.2 4 (104, i_9) → (kt r0.1 = 1 ∧ (∀ M_12 : Mem, M_12 = sI M_11 r0.1 r0.2 5 0 → (¬ (30 : Int32) < 0 ∧ (30 : Int32).toNatClampNeg ≤ 100000 ∧ rom M_12 (30 : Int32).toNatClampNeg ∧ (∃ i_13 : Nat, M_12.2.2.1 106 i_13 = 0 ∧ ∀ M_14 : Mem, M_14 = sN M_12 106 i_13 (30 : Int32).toNatClampNeg (30 : Int32).toNatClampNeg → (kt r0.1 = 1 ∧ (∀ M_15 : Mem, M_15 = sR M_14 r0.1 r0.2 6 (106, i_13) → (¬ (30 : Int32) < 0 ∧ (30 : Int32).toNatClampNeg ≤ 100000 ∧ rom M_15 (30 : Int32).toNatClampNeg ∧ (∃ i_16 : Nat, M_15.2.2.1 107 i_16 = 0 ∧ ∀ M_17 : Mem, M_17 = sN M_15 107 i_16 (30 : Int32).toNatClampNeg (30 : Int32).toNatClampNeg → (kt r0.1 = 1 ∧ (∀ M_18 : Mem, M_18 = sR M_17 r0.1 r0.2 7 (107, i_16) → (¬ (30 : Int32) < 0 ∧ (30 : Int32).toNatClampNeg ≤ 100000 ∧ rom M_18 (30 : Int32).toNatClampNeg ∧ (∃ i_19 : Nat, M_18.2.2.1 108 i_19 = 0 ∧ ∀ M_20 : Mem, M_20 = sN M_18 108 i_19 (30 : Int32).toNatClampNeg (30 : Int32).toNatClampNeg → (kt r0.1 = 1 ∧ (∀ M_21 : Mem, M_21 = sR M_20 r0.1 r0.2 8 (108, i_19) → (¬ (30 : Int32) < 0 ∧ (30 : Int32).toNatClampNeg ≤ 100000 ∧ rom M_21 (30 : Int32).toNatClampNeg ∧ (∃ i_22 : Nat, M_21.2.2.1 109 i_22 = 0 ∧ ∀ M_23 : Mem, M_23 = sN M_21 109 i_22 (30 : Int32).toNatClampNeg (30 : Int32).toNatClampNeg → (kt r0.1 = 1 ∧ (∀ M_24 : Mem, M_24 = sR M_23 r0.1 r0.2 9 (109, i_22) → (¬ (30 : Int32) < 0 ∧ (30 : Int32).toNatClampNeg ≤ 100000 ∧ rom M_24 (30 : Int32).toNatClampNeg ∧ (∃ i_25 : Nat, M_24.2.2.1 110 i_25 = 0 ∧ ∀ M_26 : Mem, M_26 = sN M_24 110 i_25 (30 : Int32).toNatClampNeg (30 : Int32).toNatClampNeg → (kt r0.1 = 1 ∧ (∀ M_27 : Mem, M_27 = sR M_26 r0.1 r0.2 10 (110, i_25) → (kt r0.1 = 1 ∧ (∀ M_28 : Mem, M_28 = sI M_27 r0.1 r0.2 11 0 → (¬ (30 : Int32) < 0 ∧ (30 : Int32).toNatClampNeg ≤ 100000 ∧ rom M_28 (30 : Int32).toNatClampNeg ∧ (∃ i_29 : Nat, M_28.2.2.1 112 i_29 = 0 ∧ ∀ M_30 : Mem, M_30 = sN M_28 112 i_29 (30 : Int32).toNatClampNeg (30 : Int32).toNatClampNeg → (kt r0.1 = 1 ∧ (∀ M_31 : Mem, M_31 = sR M_30 r0.1 r0.2 12 (112, i_29) → (¬ (30 : Int32) < 0 ∧ (30 : Int32).toNatClampNeg ≤ 100000 ∧ rom M_31 (30 : Int32).toNatClampNeg ∧ (∃ i_32 : Nat, M_31.2.2.1 113 i_32 = 0 ∧ ∀ M_33 : Mem, M_33 = sN M_31 113 i_32 (30 : Int32).toNatClampNeg (30 : Int32).toNatClampNeg → (kt r0.1 = 1 ∧ (∀ M_34 : Mem, M_34 = sR M_33 r0.1 r0.2 13 (113, i_32) → (¬ (30 : Int32) < 0 ∧ (30 : Int32).toNatClampNeg ≤ 100000 ∧ rom M_34 (30 : Int32).toNatClampNeg ∧ (∃ i_35 : Nat, M_34.2.2.1 114 i_35 = 0 ∧ ∀ M_36 : Mem, M_36 = sN M_34 114 i_35 (30 : Int32).toNatClampNeg (30 : Int32).toNatClampNeg → (kt r0.1 = 1 ∧ (∀ M_37 : Mem, M_37 = sR M_36 r0.1 r0.2 14 (114, i_35) → (¬ (30 : Int32) < 0 ∧ (30 : Int32).toNatClampNeg ≤ 100000 ∧ rom M_37 (30 : Int32).toNatClampNeg ∧ (∃ i_38 : Nat, M_37.2.2.1 115 i_38 = 0 ∧ ∀ M_39 : Mem, M_39 = sN M_37 115 i_38 (30 : Int32).toNatClampNeg (30 : Int32).toNatClampNeg → (kt r0.1 = 1 ∧ (∀ M_40 : Mem, M_40 = sR M_39 r0.1 r0.2 15 (115, i_38) → (¬ (30 : Int32) < 0 ∧ (30 : Int32).toNatClampNeg ≤ 100000 ∧ rom M_40 (30 : Int32).toNatClampNeg ∧ (∃ i_41 : Nat, M_40.2.2.1 116 i_41 = 0 ∧ ∀ M_42 : Mem, M_42 = sN M_40 116 i_41 (30 : Int32).toNatClampNeg (30 : Int32).toNatClampNeg → (kt r0.1 = 1 ∧ (∀ M_43 : Mem, M_43 = sR M_42 r0.1 r0.2 16 (116, i_41) → (kt r0.1 = 1 ∧ (∀ M_44 : Mem, M_44 = sI M_43 r0.1 r0.2 17 0 → (¬ (4400 : Int32) < 0 ∧ (4400 : Int32).toNatClampNeg ≤ 100000 ∧ rom M_44 (4400 : Int32).toNatClampNeg ∧ (∃ i_45 : Nat, M_44.2.2.1 118 i_45 = 0 ∧ ∀ M_46 : Mem, M_46 = sN M_44 118 i_45 (4400 : Int32).toNatClampNeg (4400 : Int32).toNatClampNeg → (kt r0.1 = 1 ∧ (∀ M_47 : Mem, M_47 = sR M_46 r0.1 r0.2 18 (118, i_45) → (¬ (4400 : Int32) < 0 ∧ (4400 : Int32).toNatClampNeg ≤ 100000 ∧ rom M_47 (4400 : Int32).toNatClampNeg ∧ (∃ i_48 : Nat, M_47.2.2.1 119 i_48 = 0 ∧ ∀ M_49 : Mem, M_49 = sN M_47 119 i_48 (4400 : Int32).toNatClampNeg (4400 : Int32).toNatClampNeg → (kt r0.1 = 1 ∧ (∀ M_50 : Mem, M_50 = sR M_49 r0.1 r0.2 19 (119, i_48) → (¬ (4400 : Int32) < 0 ∧ (4400 : Int32).toNatClampNeg ≤ 100000 ∧ rom M_50 (4400 : Int32).toNatClampNeg ∧ (∃ i_51 : Nat, M_50.2.2.1 120 i_51 = 0 ∧ ∀ M_52 : Mem, M_52 = sN M_50 120 i_51 (4400 : Int32).toNatClampNeg (4400 : Int32).toNatClampNeg → (kt r0.1 = 1 ∧ (∀ M_53 : Mem, M_53 = sR M_52 r0.1 r0.2 20 (120, i_51) → (¬ (4400 : Int32) < 0 ∧ (4400 : Int32).toNatClampNeg ≤ 100000 ∧ rom M_53 (4400 : Int32).toNatClampNeg ∧ (∃ i_54 : Nat, M_53.2.2.1 121 i_54 = 0 ∧ ∀ M_55 : Mem, M_55 = sN M_53 121 i_54 (4400 : Int32).toNatClampNeg (4400 : Int32).toNatClampNeg → (kt r0.1 = 1 ∧ (∀ M_56 : Mem, M_56 = sR M_55 r0.1 r0.2 21 (121, i_54) → (¬ (4400 : Int32) < 0 ∧ (4400 : Int32).toNatClampNeg ≤ 100000 ∧ rom M_56 (4400 : Int32).toNatClampNeg ∧ (∃ i_57 : Nat, M_56.2.2.1 122 i_57 = 0 ∧ ∀ M_58 : Mem, M_58 = sN M_56 122 i_57 (4400 : Int32).toNatClampNeg (4400 : Int32).toNatClampNeg → (kt r0.1 = 1 ∧ (∀ M_59 : Mem, M_59 = sR M_58 r0.1 r0.2 22 (122, i_57) → (kt r0.1 = 1 ∧ (∀ M_60 : Mem, M_60 = sI M_59 r0.1 r0.2 23 0 → (¬ (4400 : Int32) < 0 ∧ (4400 : Int32).toNatClampNeg ≤ 100000 ∧ rom M_60 (4400 : Int32).toNatClampNeg ∧ (∃ i_61 : Nat, M_60.2.2.1 124 i_61 = 0 ∧ ∀ M_62 : Mem, M_62 = sN M_60 124 i_61 (4400 : Int32).toNatClampNeg (4400 : Int32).toNatClampNeg → (kt r0.1 = 1 ∧ (∀ M_63 : Mem, M_63 = sR M_62 r0.1 r0.2 24 (124, i_61) → (¬ (4400 : Int32) < 0 ∧ (4400 : Int32).toNatClampNeg ≤ 100000 ∧ rom M_63 (4400 : Int32).toNatClampNeg ∧ (∃ i_64 : Nat, M_63.2.2.1 125 i_64 = 0 ∧ ∀ M_65 : Mem, M_65 = sN M_63 125 i_64 (4400 : Int32).toNatClampNeg (4400 : Int32).toNatClampNeg → (kt r0.1 = 1 ∧ (∀ M_66 : Mem, M_66 = sR M_65 r0.1 r0.2 25 (125, i_64) → (¬ (4400 : Int32) < 0 ∧ (4400 : Int32).toNatClampNeg ≤ 100000 ∧ rom M_66 (4400 : Int32).toNatClampNeg ∧ (∃ i_67 : Nat, M_66.2.2.1 126 i_67 = 0 ∧ ∀ M_68 : Mem, M_68 = sN M_66 126 i_67 (4400 : Int32).toNatClampNeg (4400 : Int32).toNatClampNeg → (kt r0.1 = 1 ∧ (∀ M_69 : Mem, M_69 = sR M_68 r0.1 r0.2 26 (126, i_67) → (¬ (4400 : Int32) < 0 ∧ (4400 : Int32).toNatClampNeg ≤ 100000 ∧ rom M_69 (4400 : Int32).toNatClampNeg ∧ (∃ i_70 : Nat, M_69.2.2.1 127 i_70 = 0 ∧ ∀ M_71 : Mem, M_71 = sN M_69 127 i_70 (4400 : Int32).toNatClampNeg (4400 : Int32).toNatClampNeg → (kt r0.1 = 1 ∧ (∀ M_72 : Mem, M_72 = sR M_71 r0.1 r0.2 27 (127, i_70) → (¬ (4400 : Int32) < 0 ∧ (4400 : Int32).toNatClampNeg ≤ 100000 ∧ rom M_72 (4400 : Int32).toNatClampNeg ∧ (∃ i_73 : Nat, M_72.2.2.1 128 i_73 = 0 ∧ ∀ M_74 : Mem, M_74 = sN M_72 128 i_73 (4400 : Int32).toNatClampNeg (4400 : Int32).toNatClampNeg → (kt r0.1 = 1 ∧ (∀ M_75 : Mem, M_75 = sR M_74 r0.1 r0.2 28 (128, i_73) → (¬ (4400 : Int32) < 0 ∧ (4400 : Int32).toNatClampNeg ≤ 100000 ∧ rom M_75 (4400 : Int32).toNatClampNeg ∧ (∃ i_76 : Nat, M_75.2.2.1 129 i_76 = 0 ∧ ∀ M_77 : Mem, M_77 = sN M_75 129 i_76 (4400 : Int32).toNatClampNeg (4400 : Int32).toNatClampNeg → (kt r0.1 = 1 ∧ (∀ M_78 : Mem, M_78 = sR M_77 r0.1 r0.2 29 (129, i_76) → (kt r0.1 = 1 ∧ (∀ M_79 : Mem, M_79 = sI M_78 r0.1 r0.2 30 0 → (¬ (24 : Int32) < 0 ∧ (24 : Int32).toNatClampNeg ≤ 100000 ∧ rom M_79 (24 : Int32).toNatClampNeg ∧ (∃ i_80 : Nat, M_79.2.2.1 131 i_80 = 0 ∧ ∀ M_81 : Mem, M_81 = sN M_79 131 i_80 (24 : Int32).toNatClampNeg (24 : Int32).toNatClampNeg → (kt r0.1 = 1 ∧ (∀ M_82 : Mem, M_82 = sR M_81 r0.1 r0.2 31 (131, i_80) → (¬ (24 : Int32) < 0 ∧ (24 : Int32).toNatClampNeg ≤ 100000 ∧ rom M_82 (24 : Int32).toNatClampNeg ∧ (∃ i_83 : Nat, M_82.2.2.1 132 i_83 = 0 ∧ ∀ M_84 : Mem, M_84 = sN M_82 132 i_83 (24 : Int32).toNatClampNeg (24 : Int32).toNatClampNeg → (kt r0.1 = 1 ∧ (∀ M_85 : Mem, M_85 = sR M_84 r0.1 r0.2 32 (132, i_83) → (¬ (24 : Int32) < 0 ∧ (24 : Int32).toNatClampNeg ≤ 100000 ∧ rom M_85 (24 : Int32).toNatClampNeg ∧ (∃ i_86 : Nat, M_85.2.2.1 133 i_86 = 0 ∧ ∀ M_87 : Mem, M_87 = sN M_85 133 i_86 (24 : Int32).toNatClampNeg (24 : Int32).toNatClampNeg → (kt r0.1 = 1 ∧ (∀ M_88 : Mem, M_88 = sR M_87 r0.1 r0.2 33 (133, i_86) → (¬ (24 : Int32) < 0 ∧ (24 : Int32).toNatClampNeg ≤ 100000 ∧ rom M_88 (24 : Int32).toNatClampNeg ∧ (∃ i_89 : Nat, M_88.2.2.1 134 i_89 = 0 ∧ ∀ M_90 : Mem, M_90 = sN M_88 134 i_89 (24 : Int32).toNatClampNeg (24 : Int32).toNatClampNeg → (kt r0.1 = 1 ∧ (∀ M_91 : Mem, M_91 = sR M_90 r0.1 r0.2 34 (134, i_89) → (¬ (24 : Int32) < 0 ∧ (24 : Int32).toNatClampNeg ≤ 100000 ∧ rom M_91 (24 : Int32).toNatClampNeg ∧ (∃ i_92 : Nat, M_91.2.2.1 135 i_92 = 0 ∧ ∀ M_93 : Mem, M_93 = sN M_91 135 i_92 (24 : Int32).toNatClampNeg (24 : Int32).toNatClampNeg → (kt r0.1 = 1 ∧ (∀ M_94 : Mem, M_94 = sR M_93 r0.1 r0.2 35 (135, i_92) → (¬ (24 : Int32) < 0 ∧ (24 : Int32).toNatClampNeg ≤ 100000 ∧ rom M_94 (24 : Int32).toNatClampNeg ∧ (∃ i_95 : Nat, M_94.2.2.1 136 i_95 = 0 ∧ ∀ M_96 : Mem, M_96 = sN M_94 136 i_95 (24 : Int32).toNatClampNeg (24 : Int32).toNatClampNeg → (kt r0.1 = 1 ∧ (∀ M_97 : Mem, M_97 = sR M_96 r0.1 r0.2 36 (136, i_95) → (¬ (24 : Int32) < 0 ∧ (24 : Int32).toNatClampNeg ≤ 100000 ∧ rom M_97 (24 : Int32).toNatClampNeg ∧ (∃ i_98 : Nat, M_97.2.2.1 137 i_98 = 0 ∧ ∀ M_99 : Mem, M_99 = sN M_97 137 i_98 (24 : Int32).toNatClampNeg (24 : Int32).toNatClampNeg → (kt r0.1 = 1 ∧ (∀ M_100 : Mem, M_100 = sR M_99 r0.1 r0.2 37 (137, i_98) → (¬ (24 : Int32) < 0 ∧ (24 : Int32).toNatClampNeg ≤ 100000 ∧ rom M_100 (24 : Int32).toNatClampNeg ∧ (∃ i_101 : Nat, M_100.2.2.1 138 i_101 = 0 ∧ ∀ M_102 : Mem, M_102 = sN M_100 138 i_101 (24 : Int32).toNatClampNeg (24 : Int32).toNatClampNeg → (kt r0.1 = 1 ∧ (∀ M_103 : Mem, M_103 = sR M_102 r0.1 r0.2 38 (138, i_101) → (¬ (24 : Int32) < 0 ∧ (24 : Int32).toNatClampNeg ≤ 100000 ∧ rom M_103 (24 : Int32).toNatClampNeg ∧ (∃ i_104 : Nat, M_103.2.2.1 139 i_104 = 0 ∧ ∀ M_105 : Mem, M_105 = sN M_103 139 i_104 (24 : Int32).toNatClampNeg (24 : Int32).toNatClampNeg → (kt r0.1 = 1 ∧ (∀ M_106 : Mem, M_106 = sR M_105 r0.1 r0.2 39 (139, i_104) → (¬ (24 : Int32) < 0 ∧ (24 : Int32).toNatClampNeg ≤ 100000 ∧ rom M_106 (24 : Int32).toNatClampNeg ∧ (∃ i_107 : Nat, M_106.2.2.1 140 i_107 = 0 ∧ ∀ M_108 : Mem, M_108 = sN M_106 140 i_107 (24 : Int32).toNatClampNeg (24 : Int32).toNatClampNeg → (kt r0.1 = 1 ∧ (∀ M_109 : Mem, M_109 = sR M_108 r0.1 r0.2 40 (140, i_107) → (¬ (24 : Int32) < 0 ∧ (24 : Int32).toNatClampNeg ≤ 100000 ∧ rom M_109 (24 : Int32).toNatClampNeg ∧ (∃ i_110 : Nat, M_109.2.2.1 141 i_110 = 0 ∧ ∀ M_111 : Mem, M_111 = sN M_109 141 i_110 (24 : Int32).toNatClampNeg (24 : Int32).toNatClampNeg → (kt r0.1 = 1 ∧ (∀ M_112 : Mem, M_112 = sR M_111 r0.1 r0.2 41 (141, i_110) → (¬ (24 : Int32) < 0 ∧ (24 : Int32).toNatClampNeg ≤ 100000 ∧ rom M_112 (24 : Int32).toNatClampNeg ∧ (∃ i_113 : Nat, M_112.2.2.1 142 i_113 = 0 ∧ ∀ M_114 : Mem, M_114 = sN M_112 142 i_113 (24 : Int32).toNatClampNeg (24 : Int32).toNatClampNeg → (kt r0.1 = 1 ∧ (∀ M_115 : Mem, M_115 = sR M_114 r0.1 r0.2 42 (142, i_113) → (¬ (240 : Int32) < 0 ∧ (240 : Int32).toNatClampNeg ≤ 100000 ∧ rom M_115 (240 : Int32).toNatClampNeg ∧ (∃ i_116 : Nat, M_115.2.2.1 143 i_116 = 0 ∧ ∀ M_117 : Mem, M_117 = sN M_115 143 i_116 (240 : Int32).toNatClampNeg (240 : Int32).toNatClampNeg → (kt r0.1 = 1 ∧ (∀ M_118 : Mem, M_118 = sR M_117 r0.1 r0.2 43 (143, i_116) → (¬ (192 : Int32) < 0 ∧ (192 : Int32).toNatClampNeg ≤ 100000 ∧ rom M_118 (192 : Int32).toNatClampNeg ∧ (∃ i_119 : Nat, M_118.2.2.1 144 i_119 = 0 ∧ ∀ M_120 : Mem, M_120 = sN M_118 144 i_119 (192 : Int32).toNatClampNeg (192 : Int32).toNatClampNeg → (kt r0.1 = 1 ∧ (∀ M_121 : Mem, M_121 = sR M_120 r0.1 r0.2 44 (144, i_119) → (¬ (192 : Int32) < 0 ∧ (192 : Int32).toNatClampNeg ≤ 100000 ∧ rom M_121 (192 : Int32).toNatClampNeg ∧ (∃ i_122 : Nat, M_121.2.2.1 145 i_122 = 0 ∧ ∀ M_123 : Mem, M_123 = sN M_121 145 i_122 (192 : Int32).toNatClampNeg (192 : Int32).toNatClampNeg → (kt r0.1 = 1 ∧ (∀ M_124 : Mem, M_124 = sR M_123 r0.1 r0.2 45 (145, i_122) → (¬ (192 : Int32) < 0 ∧ (192 : Int32).toNatClampNeg ≤ 100000 ∧ rom M_124 (192 : Int32).toNatClampNeg ∧ (∃ i_125 : Nat, M_124.2.2.1 146 i_125 = 0 ∧ ∀ M_126 : Mem, M_126 = sN M_124 146 i_125 (192 : Int32).toNatClampNeg (192 : Int32).toNatClampNeg → (kt r0.1 = 1 ∧ (∀ M_127 : Mem, M_127 = sR M_126 r0.1 r0.2 46 (146, i_125) → (kt r0.1 = 1 ∧ (∀ M_128 : Mem, M_128 = sI M_127 r0.1 r0.2 47 0 → (¬ (11 : Int32) < 0 ∧ (11 : Int32).toNatClampNeg ≤ 100000 ∧ rom M_128 (11 : Int32).toNatClampNeg ∧ (∃ i_129 : Nat, M_128.2.2.1 148 i_129 = 0 ∧ ∀ M_130 : Mem, M_130 = sN M_128 148 i_129 (11 : Int32).toNatClampNeg (11 : Int32).toNatClampNeg → (kt r0.1 = 1 ∧ (∀ M_131 : Mem, M_131 = sR M_130 r0.1 r0.2 48 (148, i_129) → (¬ (55 : Int32) < 0 ∧ (55 : Int32).toNatClampNeg ≤ 100000 ∧ rom M_131 (55 : Int32).toNatClampNeg ∧ (∃ i_132 : Nat, M_131.2.2.1 149 i_132 = 0 ∧ ∀ M_133 : Mem, M_133 = sN M_131 149 i_132 (55 : Int32).toNatClampNeg (55 : Int32).toNatClampNeg → (kt r0.1 = 1 ∧ (∀ M_134 : Mem, M_134 = sR M_133 r0.1 r0.2 49 (149, i_132) → (kt r0.1 = 1 ∧ (∀ M_135 : Mem, M_135 = sI M_134 r0.1 r0.2 50 0 → (¬ (60 : Int32) < 0 ∧ (60 : Int32).toNatClampNeg ≤ 100000 ∧ rom M_135 (60 : Int32).toNatClampNeg ∧ (∃ i_136 : Nat, M_135.2.2.1 151 i_136 = 0 ∧ ∀ M_137 : Mem, M_137 = sN M_135 151 i_136 (60 : Int32).toNatClampNeg (60 : Int32).toNatClampNeg → (kt r0.1 = 1 ∧ (∀ M_138 : Mem, M_138 = sR M_137 r0.1 r0.2 51 (151, i_136) → (¬ (60 : Int32) < 0 ∧ (60 : Int32).toNatClampNeg ≤ 100000 ∧ rom M_138 (60 : Int32).toNatClampNeg ∧ (∃ i_139 : Nat, M_138.2.2.1 152 i_139 = 0 ∧ ∀ M_140 : Mem, M_140 = sN M_138 152 i_139 (60 : Int32).toNatClampNeg (60 : Int32).toNatClampNeg → (kt r0.1 = 1 ∧ (∀ M_141 : Mem, M_141 = sR M_140 r0.1 r0.2 52 (152, i_139) → (¬ (60 : Int32) < 0 ∧ (60 : Int32).toNatClampNeg ≤ 100000 ∧ rom M_141 (60 : Int32).toNatClampNeg ∧ (∃ i_142 : Nat, M_141.2.2.1 153 i_142 = 0 ∧ ∀ M_143 : Mem, M_143 = sN M_141 153 i_142 (60 : Int32).toNatClampNeg (60 : Int32).toNatClampNeg → (kt r0.1 = 1 ∧ (∀ M_144 : Mem, M_144 = sR M_143 r0.1 r0.2 53 (153, i_142) → (¬ (60 : Int32) < 0 ∧ (60 : Int32).toNatClampNeg ≤ 100000 ∧ rom M_144 (60 : Int32).toNatClampNeg ∧ (∃ i_145 : Nat, M_144.2.2.1 154 i_145 = 0 ∧ ∀ M_146 : Mem, M_146 = sN M_144 154 i_145 (60 : Int32).toNatClampNeg (60 : Int32).toNatClampNeg → (kt r0.1 = 1 ∧ (∀ M_147 : Mem, M_147 = sR M_146 r0.1 r0.2 54 (154, i_145) → (¬ (60 : Int32) < 0 ∧ (60 : Int32).toNatClampNeg ≤ 100000 ∧ rom M_147 (60 : Int32).toNatClampNeg ∧ (∃ i_148 : Nat, M_147.2.2.1 155 i_148 = 0 ∧ ∀ M_149 : Mem, M_149 = sN M_147 155 i_148 (60 : Int32).toNatClampNeg (60 : Int32).toNatClampNeg → (kt r0.1 = 1 ∧ (∀ M_150 : Mem, M_150 = sR M_149 r0.1 r0.2 55 (155, i_148) → (¬ (60 : Int32) < 0 ∧ (60 : Int32).toNatClampNeg ≤ 100000 ∧ rom M_150 (60 : Int32).toNatClampNeg ∧ (∃ i_151 : Nat, M_150.2.2.1 156 i_151 = 0 ∧ ∀ M_152 : Mem, M_152 = sN M_150 156 i_151 (60 : Int32).toNatClampNeg (60 : Int32).toNatClampNeg → (kt r0.1 = 1 ∧ (∀ M_153 : Mem, M_153 = sR M_152 r0.1 r0.2 56 (156, i_151) → (¬ (60 : Int32) < 0 ∧ (60 : Int32).toNatClampNeg ≤ 100000 ∧ rom M_153 (60 : Int32).toNatClampNeg ∧ (∃ i_154 : Nat, M_153.2.2.1 157 i_154 = 0 ∧ ∀ M_155 : Mem, M_155 = sN M_153 157 i_154 (60 : Int32).toNatClampNeg (60 : Int32).toNatClampNeg → (kt r0.1 = 1 ∧ (∀ M_156 : Mem, M_156 = sR M_155 r0.1 r0.2 57 (157, i_154) → (¬ (60 : Int32) < 0 ∧ (60 : Int32).toNatClampNeg ≤ 100000 ∧ rom M_156 (60 : Int32).toNatClampNeg ∧ (∃ i_157 : Nat, M_156.2.2.1 158 i_157 = 0 ∧ ∀ M_158 : Mem, M_158 = sN M_156 158 i_157 (60 : Int32).toNatClampNeg (60 : Int32).toNatClampNeg → (kt r0.1 = 1 ∧ (∀ M_159 : Mem, M_159 = sR M_158 r0.1 r0.2 58 (158, i_157) → (¬ (60 : Int32) < 0 ∧ (60 : Int32).toNatClampNeg ≤ 100000 ∧ rom M_159 (60 : Int32).toNatClampNeg ∧ (∃ i_160 : Nat, M_159.2.2.1 159 i_160 = 0 ∧ ∀ M_161 : Mem, M_161 = sN M_159 159 i_160 (60 : Int32).toNatClampNeg (60 : Int32).toNatClampNeg → (kt r0.1 = 1 ∧ (∀ M_162 : Mem, M_162 = sR M_161 r0.1 r0.2 59 (159, i_160) → (kt r0.1 = 1 ∧ (∀ M_163 : Mem, M_163 = sI M_162 r0.1 r0.2 60 0 → (kt r0.1 = 1 ∧ (∀ M_164 : Mem, M_164 = sI M_163 r0.1 r0.2 61 0 → (¬ (4400 : Int32) < 0 ∧ (4400 : Int32).toNatClampNeg ≤ 100000 ∧ rom M_164 (4400 : Int32).toNatClampNeg ∧ (∃ i_165 : Nat, M_164.2.2.1 162 i_165 = 0 ∧ ∀ M_166 : Mem, M_166 = sN M_164 162 i_165 (4400 : Int32).toNatClampNeg (4400 : Int32).toNatClampNeg → (kt r0.1 = 1 ∧ (∀ M_167 : Mem, M_167 = sR M_166 r0.1 r0.2 62 (162, i_165) → (¬ (4400 : Int32) < 0 ∧ (4400 : Int32).toNatClampNeg ≤ 100000 ∧ rom M_167 (4400 : Int32).toNatClampNeg ∧ (∃ i_168 : Nat, M_167.2.2.1 163 i_168 = 0 ∧ ∀ M_169 : Mem, M_169 = sN M_167 163 i_168 (4400 : Int32).toNatClampNeg (4400 : Int32).toNatClampNeg → (kt r0.1 = 1 ∧ (∀ M_170 : Mem, M_170 = sR M_169 r0.1 r0.2 63 (163, i_168) → (¬ (4400 : Int32) < 0 ∧ (4400 : Int32).toNatClampNeg ≤ 100000 ∧ rom M_170 (4400 : Int32).toNatClampNeg ∧ (∃ i_171 : Nat, M_170.2.2.1 164 i_171 = 0 ∧ ∀ M_172 : Mem, M_172 = sN M_170 164 i_171 (4400 : Int32).toNatClampNeg (4400 : Int32).toNatClampNeg → (kt r0.1 = 1 ∧ (∀ M_173 : Mem, M_173 = sR M_172 r0.1 r0.2 64 (164, i_171) → (¬ (4400 : Int32) < 0 ∧ (4400 : Int32).toNatClampNeg ≤ 100000 ∧ rom M_173 (4400 : Int32).toNatClampNeg ∧ (∃ i_174 : Nat, M_173.2.2.1 165 i_174 = 0 ∧ ∀ M_175 : Mem, M_175 = sN M_173 165 i_174 (4400 : Int32).toNatClampNeg (4400 : Int32).toNatClampNeg → (kt r0.1 = 1 ∧ (∀ M_176 : Mem, M_176 = sR M_175 r0.1 r0.2 65 (165, i_174) → (¬ (4400 : Int32) < 0 ∧ (4400 : Int32).toNatClampNeg ≤ 100000 ∧ rom M_176 (4400 : Int32).toNatClampNeg ∧ (∃ i_177 : Nat, M_176.2.2.1 166 i_177 = 0 ∧ ∀ M_178 : Mem, M_178 = sN M_176 166 i_177 (4400 : Int32).toNatClampNeg (4400 : Int32).toNatClampNeg → (kt r0.1 = 1 ∧ (∀ M_179 : Mem, M_179 = sR M_178 r0.1 r0.2 66 (166, i_177) → (¬ (4400 : Int32) < 0 ∧ (4400 : Int32).toNatClampNeg ≤ 100000 ∧ rom M_179 (4400 : Int32).toNatClampNeg ∧ (∃ i_180 : Nat, M_179.2.2.1 167 i_180 = 0 ∧ ∀ M_181 : Mem, M_181 = sN M_179 167 i_180 (4400 : Int32).toNatClampNeg (4400 : Int32).toNatClampNeg → (kt r0.1 = 1 ∧ (∀ M_182 : Mem, M_182 = sR M_181 r0.1 r0.2 67 (167, i_180) → (¬ (4400 : Int32) < 0 ∧ (4400 : Int32).toNatClampNeg ≤ 100000 ∧ rom M_182 (4400 : Int32).toNatClampNeg ∧ (∃ i_183 : Nat, M_182.2.2.1 168 i_183 = 0 ∧ ∀ M_184 : Mem, M_184 = sN M_182 168 i_183 (4400 : Int32).toNatClampNeg (4400 : Int32).toNatClampNeg → (kt r0.1 = 1 ∧ (∀ M_185 : Mem, M_185 = sR M_184 r0.1 r0.2 68 (168, i_183) → (¬ (4400 : Int32) < 0 ∧ (4400 : Int32).toNatClampNeg ≤ 100000 ∧ rom M_185 (4400 : Int32).toNatClampNeg ∧ (∃ i_186 : Nat, M_185.2.2.1 169 i_186 = 0 ∧ ∀ M_187 : Mem, M_187 = sN M_185 169 i_186 (4400 : Int32).toNatClampNeg (4400 : Int32).toNatClampNeg → (kt r0.1 = 1 ∧ (∀ M_188 : Mem, M_188 = sR M_187 r0.1 r0.2 69 (169, i_186) → (¬ (4400 : Int32) < 0 ∧ (4400 : Int32).toNatClampNeg ≤ 100000 ∧ rom M_188 (4400 : Int32).toNatClampNeg ∧ (∃ i_189 : Nat, M_188.2.2.1 170 i_189 = 0 ∧ ∀ M_190 : Mem, M_190 = sN M_188 170 i_189 (4400 : Int32).toNatClampNeg (4400 : Int32).toNatClampNeg → (kt r0.1 = 1 ∧ (∀ M_191 : Mem, M_191 = sR M_190 r0.1 r0.2 70 (170, i_189) → (¬ (4400 : Int32) < 0 ∧ (4400 : Int32).toNatClampNeg ≤ 100000 ∧ rom M_191 (4400 : Int32).toNatClampNeg ∧ (∃ i_192 : Nat, M_191.2.2.1 171 i_192 = 0 ∧ ∀ M_193 : Mem, M_193 = sN M_191 171 i_192 (4400 : Int32).toNatClampNeg (4400 : Int32).toNatClampNeg → (kt r0.1 = 1 ∧ (∀ M_194 : Mem, M_194 = sR M_193 r0.1 r0.2 71 (171, i_192) → (¬ (4400 : Int32) < 0 ∧ (4400 : Int32).toNatClampNeg ≤ 100000 ∧ rom M_194 (4400 : Int32).toNatClampNeg ∧ (∃ i_195 : Nat, M_194.2.2.1 172 i_195 = 0 ∧ ∀ M_196 : Mem, M_196 = sN M_194 172 i_195 (4400 : Int32).toNatClampNeg (4400 : Int32).toNatClampNeg → (kt r0.1 = 1 ∧ (∀ M_197 : Mem, M_197 = sR M_196 r0.1 r0.2 72 (172, i_195) → (¬ (4400 : Int32) < 0 ∧ (4400 : Int32).toNatClampNeg ≤ 100000 ∧ rom M_197 (4400 : Int32).toNatClampNeg ∧ (∃ i_198 : Nat, M_197.2.2.1 173 i_198 = 0 ∧ ∀ M_199 : Mem, M_199 = sN M_197 173 i_198 (4400 : Int32).toNatClampNeg (4400 : Int32).toNatClampNeg → (kt r0.1 = 1 ∧ (∀ M_200 : Mem, M_200 = sR M_199 r0.1 r0.2 73 (173, i_198) → (¬ (4400 : Int32) < 0 ∧ (4400 : Int32).toNatClampNeg ≤ 100000 ∧ rom M_200 (4400 : Int32).toNatClampNeg ∧ (∃ i_201 : Nat, M_200.2.2.1 174 i_201 = 0 ∧ ∀ M_202 : Mem, M_202 = sN M_200 174 i_201 (4400 : Int32).toNatClampNeg (4400 : Int32).toNatClampNeg → (kt r0.1 = 1 ∧ (∀ M_203 : Mem, M_203 = sR M_202 r0.1 r0.2 74 (174, i_201) → (¬ (4400 : Int32) < 0 ∧ (4400 : Int32).toNatClampNeg ≤ 100000 ∧ rom M_203 (4400 : Int32).toNatClampNeg ∧ (∃ i_204 : Nat, M_203.2.2.1 175 i_204 = 0 ∧ ∀ M_205 : Mem, M_205 = sN M_203 175 i_204 (4400 : Int32).toNatClampNeg (4400 : Int32).toNatClampNeg → (kt r0.1 = 1 ∧ (∀ M_206 : Mem, M_206 = sR M_205 r0.1 r0.2 75 (175, i_204) → (¬ (4400 : Int32) < 0 ∧ (4400 : Int32).toNatClampNeg ≤ 100000 ∧ rom M_206 (4400 : Int32).toNatClampNeg ∧ (∃ i_207 : Nat, M_206.2.2.1 176 i_207 = 0 ∧ ∀ M_208 : Mem, M_208 = sN M_206 176 i_207 (4400 : Int32).toNatClampNeg (4400 : Int32).toNatClampNeg → (kt r0.1 = 1 ∧ (∀ M_209 : Mem, M_209 = sR M_208 r0.1 r0.2 76 (176, i_207) → (¬ (4400 : Int32) < 0 ∧ (4400 : Int32).toNatClampNeg ≤ 100000 ∧ rom M_209 (4400 : Int32).toNatClampNeg ∧ (∃ i_210 : Nat, M_209.2.2.1 177 i_210 = 0 ∧ ∀ M_211 : Mem, M_211 = sN M_209 177 i_210 (4400 : Int32).toNatClampNeg (4400 : Int32).toNatClampNeg → (kt r0.1 = 1 ∧ (∀ M_212 : Mem, M_212 = sR M_211 r0.1 r0.2 77 (177, i_210) → (¬ (4400 : Int32) < 0 ∧ (4400 : Int32).toNatClampNeg ≤ 100000 ∧ rom M_212 (4400 : Int32).toNatClampNeg ∧ (∃ i_213 : Nat, M_212.2.2.1 178 i_213 = 0 ∧ ∀ M_214 : Mem, M_214 = sN M_212 178 i_213 (4400 : Int32).toNatClampNeg (4400 : Int32).toNatClampNeg → (kt r0.1 = 1 ∧ (∀ M_215 : Mem, M_215 = sR M_214 r0.1 r0.2 78 (178, i_213) → (¬ (4400 : Int32) < 0 ∧ (4400 : Int32).toNatClampNeg ≤ 100000 ∧ rom M_215 (4400 : Int32).toNatClampNeg ∧ (∃ i_216 : Nat, M_215.2.2.1 179 i_216 = 0 ∧ ∀ M_217 : Mem, M_217 = sN M_215 179 i_216 (4400 : Int32).toNatClampNeg (4400 : Int32).toNatClampNeg → (kt r0.1 = 1 ∧ (∀ M_218 : Mem, M_218 = sR M_217 r0.1 r0.2 79 (179, i_216) → (¬ (4400 : Int32) < 0 ∧ (4400 : Int32).toNatClampNeg ≤ 100000 ∧ rom M_218 (4400 : Int32).toNatClampNeg ∧ (∃ i_219 : Nat, M_218.2.2.1 180 i_219 = 0 ∧ ∀ M_220 : Mem, M_220 = sN M_218 180 i_219 (4400 : Int32).toNatClampNeg (4400 : Int32).toNatClampNeg → (kt r0.1 = 1 ∧ (∀ M_221 : Mem, M_221 = sR M_220 r0.1 r0.2 80 (180, i_219) → (¬ (4400 : Int32) < 0 ∧ (4400 : Int32).toNatClampNeg ≤ 100000 ∧ rom M_221 (4400 : Int32).toNatClampNeg ∧ (∃ i_222 : Nat, M_221.2.2.1 181 i_222 = 0 ∧ ∀ M_223 : Mem, M_223 = sN M_221 181 i_222 (4400 : Int32).toNatClampNeg (4400 : Int32).toNatClampNeg → (kt r0.1 = 1 ∧ (∀ M_224 : Mem, M_224 = sR M_223 r0.1 r0.2 81 (181, i_222) → (kt r0.1 = 1 ∧ (∀ M_225 : Mem, M_225 = sI M_224 r0.1 r0.2 82 0 → (¬ (20000 : Int32) < 0 ∧ (20000 : Int32).toNatClampNeg ≤ 100000 ∧ rom M_225 (20000 : Int32).toNatClampNeg ∧ (∃ i_226 : Nat, M_225.2.2.1 183 i_226 = 0 ∧ ∀ M_227 : Mem, M_227 = sN M_225 183 i_226 (20000 : Int32).toNatClampNeg (20000 : Int32).toNatClampNeg → (kt r0.1 = 1 ∧ (∀ M_228 : Mem, M_228 = sR M_227 r0.1 r0.2 83 (183, i_226) → (¬ (20000 : Int32) < 0 ∧ (20000 : Int32).toNatClampNeg ≤ 100000 ∧ rom M_228 (20000 : Int32).toNatClampNeg ∧ (∃ i_229 : Nat, M_228.2.2.1 184 i_229 = 0 ∧ ∀ M_230 : Mem, M_230 = sN M_228 184 i_229 (20000 : Int32).toNatClampNeg (20000 : Int32).toNatClampNeg → (kt r0.1 = 1 ∧ (∀ M_231 : Mem, M_231 = sR M_230 r0.1 r0.2 84 (184, i_229) → (¬ (20000 : Int32) < 0 ∧ (20000 : Int32).toNatClampNeg ≤ 100000 ∧ rom M_231 (20000 : Int32).toNatClampNeg ∧ (∃ i_232 : Nat, M_231.2.2.1 185 i_232 = 0 ∧ ∀ M_233 : Mem, M_233 = sN M_231 185 i_232 (20000 : Int32).toNatClampNeg (20000 : Int32).toNatClampNeg → (kt r0.1 = 1 ∧ (∀ M_234 : Mem, M_234 = sR M_233 r0.1 r0.2 85 (185, i_232) → (¬ (20000 : Int32) < 0 ∧ (20000 : Int32).toNatClampNeg ≤ 100000 ∧ rom M_234 (20000 : Int32).toNatClampNeg ∧ (∃ i_235 : Nat, M_234.2.2.1 186 i_235 = 0 ∧ ∀ M_236 : Mem, M_236 = sN M_234 186 i_235 (20000 : Int32).toNatClampNeg (20000 : Int32).toNatClampNeg → (kt r0.1 = 1 ∧ (∀ M_237 : Mem, M_237 = sR M_236 r0.1 r0.2 86 (186, i_235) → (¬ (20000 : Int32) < 0 ∧ (20000 : Int32).toNatClampNeg ≤ 100000 ∧ rom M_237 (20000 : Int32).toNatClampNeg ∧ (∃ i_238 : Nat, M_237.2.2.1 187 i_238 = 0 ∧ ∀ M_239 : Mem, M_239 = sN M_237 187 i_238 (20000 : Int32).toNatClampNeg (20000 : Int32).toNatClampNeg → (kt r0.1 = 1 ∧ (∀ M_240 : Mem, M_240 = sR M_239 r0.1 r0.2 87 (187, i_238) → (kt r0.1 = 1 ∧ (∀ M_241 : Mem, M_241 = sI M_240 r0.1 r0.2 88 0 → (kt r0.1 = 1 ∧ (∀ M_242 : Mem, M_242 = sI M_241 r0.1 r0.2 89 0 → (¬ (12 : Int32) < 0 ∧ (12 : Int32).toNatClampNeg ≤ 100000 ∧ rom M_242 (12 : Int32).toNatClampNeg ∧ (∃ i_243 : Nat, M_242.2.2.1 190 i_243 = 0 ∧ ∀ M_244 : Mem, M_244 = sN M_242 190 i_243 (12 : Int32).toNatClampNeg (12 : Int32).toNatClampNeg → (kt r0.1 = 1 ∧ (∀ M_245 : Mem, M_245 = sR M_244 r0.1 r0.2 90 (190, i_243) → (¬ (12 : Int32) < 0 ∧ (12 : Int32).toNatClampNeg ≤ 100000 ∧ rom M_245 (12 : Int32).toNatClampNeg ∧ (∃ i_246 : Nat, M_245.2.2.1 191 i_246 = 0 ∧ ∀ M_247 : Mem, M_247 = sN M_245 191 i_246 (12 : Int32).toNatClampNeg (12 : Int32).toNatClampNeg → (kt r0.1 = 1 ∧ (∀ M_248 : Mem, M_248 = sR M_247 r0.1 r0.2 91 (191, i_246) → (¬ (12 : Int32) < 0 ∧ (12 : Int32).toNatClampNeg ≤ 100000 ∧ rom M_248 (12 : Int32).toNatClampNeg ∧ (∃ i_249 : Nat, M_248.2.2.1 192 i_249 = 0 ∧ ∀ M_250 : Mem, M_250 = sN M_248 192 i_249 (12 : Int32).toNatClampNeg (12 : Int32).toNatClampNeg → (kt r0.1 = 1 ∧ (∀ M_251 : Mem, M_251 = sR M_250 r0.1 r0.2 92 (192, i_249) → (¬ (12 : Int32) < 0 ∧ (12 : Int32).toNatClampNeg ≤ 100000 ∧ rom M_251 (12 : Int32).toNatClampNeg ∧ (∃ i_252 : Nat, M_251.2.2.1 193 i_252 = 0 ∧ ∀ M_253 : Mem, M_253 = sN M_251 193 i_252 (12 : Int32).toNatClampNeg (12 : Int32).toNatClampNeg → (kt r0.1 = 1 ∧ (∀ M_254 : Mem, M_254 = sR M_253 r0.1 r0.2 93 (193, i_252) → (¬ (12 : Int32) < 0 ∧ (12 : Int32).toNatClampNeg ≤ 100000 ∧ rom M_254 (12 : Int32).toNatClampNeg ∧ (∃ i_255 : Nat, M_254.2.2.1 194 i_255 = 0 ∧ ∀ M_256 : Mem, M_256 = sN M_254 194 i_255 (12 : Int32).toNatClampNeg (12 : Int32).toNatClampNeg → (kt r0.1 = 1 ∧ (∀ M_257 : Mem, M_257 = sR M_256 r0.1 r0.2 94 (194, i_255) → (¬ (12 : Int32) < 0 ∧ (12 : Int32).toNatClampNeg ≤ 100000 ∧ rom M_257 (12 : Int32).toNatClampNeg ∧ (∃ i_258 : Nat, M_257.2.2.1 195 i_258 = 0 ∧ ∀ M_259 : Mem, M_259 = sN M_257 195 i_258 (12 : Int32).toNatClampNeg (12 : Int32).toNatClampNeg → (kt r0.1 = 1 ∧ (∀ M_260 : Mem, M_260 = sR M_259 r0.1 r0.2 95 (195, i_258) → (¬ (12 : Int32) < 0 ∧ (12 : Int32).toNatClampNeg ≤ 100000 ∧ rom M_260 (12 : Int32).toNatClampNeg ∧ (∃ i_261 : Nat, M_260.2.2.1 196 i_261 = 0 ∧ ∀ M_262 : Mem, M_262 = sN M_260 196 i_261 (12 : Int32).toNatClampNeg (12 : Int32).toNatClampNeg → (kt r0.1 = 1 ∧ (∀ M_263 : Mem, M_263 = sR M_262 r0.1 r0.2 96 (196, i_261) → (¬ (12 : Int32) < 0 ∧ (12 : Int32).toNatClampNeg ≤ 100000 ∧ rom M_263 (12 : Int32).toNatClampNeg ∧ (∃ i_264 : Nat, M_263.2.2.1 197 i_264 = 0 ∧ ∀ M_265 : Mem, M_265 = sN M_263 197 i_264 (12 : Int32).toNatClampNeg (12 : Int32).toNatClampNeg → (kt r0.1 = 1 ∧ (∀ M_266 : Mem, M_266 = sR M_265 r0.1 r0.2 97 (197, i_264) → (¬ (12 : Int32) < 0 ∧ (12 : Int32).toNatClampNeg ≤ 100000 ∧ rom M_266 (12 : Int32).toNatClampNeg ∧ (∃ i_267 : Nat, M_266.2.2.1 198 i_267 = 0 ∧ ∀ M_268 : Mem, M_268 = sN M_266 198 i_267 (12 : Int32).toNatClampNeg (12 : Int32).toNatClampNeg → (kt r0.1 = 1 ∧ (∀ M_269 : Mem, M_269 = sR M_268 r0.1 r0.2 98 (198, i_267) → (¬ (12 : Int32) < 0 ∧ (12 : Int32).toNatClampNeg ≤ 100000 ∧ rom M_269 (12 : Int32).toNatClampNeg ∧ (∃ i_270 : Nat, M_269.2.2.1 199 i_270 = 0 ∧ ∀ M_271 : Mem, M_271 = sN M_269 199 i_270 (12 : Int32).toNatClampNeg (12 : Int32).toNatClampNeg → (kt r0.1 = 1 ∧ (∀ M_272 : Mem, M_272 = sR M_271 r0.1 r0.2 99 (199, i_270) → (¬ (12 : Int32) < 0 ∧ (12 : Int32).toNatClampNeg ≤ 100000 ∧ rom M_272 (12 : Int32).toNatClampNeg ∧ (∃ i_273 : Nat, M_272.2.2.1 200 i_273 = 0 ∧ ∀ M_274 : Mem, M_274 = sN M_272 200 i_273 (12 : Int32).toNatClampNeg (12 : Int32).toNatClampNeg → (kt r0.1 = 1 ∧ (∀ M_275 : Mem, M_275 = sR M_274 r0.1 r0.2 100 (200, i_273) → (¬ (12 : Int32) < 0 ∧ (12 : Int32).toNatClampNeg ≤ 100000 ∧ rom M_275 (12 : Int32).toNatClampNeg ∧ (∃ i_276 : Nat, M_275.2.2.1 201 i_276 = 0 ∧ ∀ M_277 : Mem, M_277 = sN M_275 201 i_276 (12 : Int32).toNatClampNeg (12 : Int32).toNatClampNeg → (kt r0.1 = 1 ∧ (∀ M_278 : Mem, M_278 = sR M_277 r0.1 r0.2 101 (201, i_276) → (¬ (12 : Int32) < 0 ∧ (12 : Int32).toNatClampNeg ≤ 100000 ∧ rom M_278 (12 : Int32).toNatClampNeg ∧ (∃ i_279 : Nat, M_278.2.2.1 202 i_279 = 0 ∧ ∀ M_280 : Mem, M_280 = sN M_278 202 i_279 (12 : Int32).toNatClampNeg (12 : Int32).toNatClampNeg → (kt r0.1 = 1 ∧ (∀ M_281 : Mem, M_281 = sR M_280 r0.1 r0.2 102 (202, i_279) → (kt r0.1 = 1 ∧ (∀ M_282 : Mem, M_282 = sI M_281 r0.1 r0.2 103 0 → (¬ (10 : Int32) < 0 ∧ (10 : Int32).toNatClampNeg ≤ 100000 ∧ rom M_282 (10 : Int32).toNatClampNeg ∧ (∃ i_283 : Nat, M_282.2.2.1 204 i_283 = 0 ∧ ∀ M_284 : Mem, M_284 = sN M_282 204 i_283 (10 : Int32).toNatClampNeg (10 : Int32).toNatClampNeg → (kt r0.1 = 1 ∧ (∀ M_285 : Mem, M_285 = sR M_284 r0.1 r0.2 104 (204, i_283) → (¬ (10 : Int32) < 0 ∧ (10 : Int32).toNatClampNeg ≤ 100000 ∧ rom M_285 (10 : Int32).toNatClampNeg ∧ (∃ i_286 : Nat, M_285.2.2.1 205 i_286 = 0 ∧ ∀ M_287 : Mem, M_287 = sN M_285 205 i_286 (10 : Int32).toNatClampNeg (10 : Int32).toNatClampNeg → (kt r0.1 = 1 ∧ (∀ M_288 : Mem, M_288 = sR M_287 r0.1 r0.2 105 (205, i_286) → (¬ (10 : Int32) < 0 ∧ (10 : Int32).toNatClampNeg ≤ 100000 ∧ rom M_288 (10 : Int32).toNatClampNeg ∧ (∃ i_289 : Nat, M_288.2.2.1 206 i_289 = 0 ∧ ∀ M_290 : Mem, M_290 = sN M_288 206 i_289 (10 : Int32).toNatClampNeg (10 : Int32).toNatClampNeg → (kt r0.1 = 1 ∧ (∀ M_291 : Mem, M_291 = sR M_290 r0.1 r0.2 106 (206, i_289) → (¬ (10 : Int32) < 0 ∧ (10 : Int32).toNatClampNeg ≤ 100000 ∧ rom M_291 (10 : Int32).toNatClampNeg ∧ (∃ i_292 : Nat, M_291.2.2.1 207 i_292 = 0 ∧ ∀ M_293 : Mem, M_293 = sN M_291 207 i_292 (10 : Int32).toNatClampNeg (10 : Int32).toNatClampNeg → (kt r0.1 = 1 ∧ (∀ M_294 : Mem, M_294 = sR M_293 r0.1 r0.2 107 (207, i_292) → (¬ (10 : Int32) < 0 ∧ (10 : Int32).toNatClampNeg ≤ 100000 ∧ rom M_294 (10 : Int32).toNatClampNeg ∧ (∃ i_295 : Nat, M_294.2.2.1 208 i_295 = 0 ∧ ∀ M_296 : Mem, M_296 = sN M_294 208 i_295 (10 : Int32).toNatClampNeg (10 : Int32).toNatClampNeg → (kt r0.1 = 1 ∧ (∀ M_297 : Mem, M_297 = sR M_296 r0.1 r0.2 108 (208, i_295) → (¬ (10 : Int32) < 0 ∧ (10 : Int32).toNatClampNeg ≤ 100000 ∧ rom M_297 (10 : Int32).toNatClampNeg ∧ (∃ i_298 : Nat, M_297.2.2.1 209 i_298 = 0 ∧ ∀ M_299 : Mem, M_299 = sN M_297 209 i_298 (10 : Int32).toNatClampNeg (10 : Int32).toNatClampNeg → (kt r0.1 = 1 ∧ (∀ M_300 : Mem, M_300 = sR M_299 r0.1 r0.2 109 (209, i_298) → (Q M_300)))))))))))))))))))))))))))))))))))))))))))))))))))))))))))))))))))))))))))))))))))))))))))))))))))))))))))))))))))))))))))))))))))))))))))))))))))))))))))))))))))))))))))))))))))))))))))))))))))))))))))))))))))))))))))))))))))))))))))))))))))))))))))))))))))))))))))))))))))))))))))))))))))))))))))))))))))))))))))))))))))))))))))))))))))))))))))))))))))))))))))))))))))))))))))))))))))))))))))))))))))))))))))
set_option maxHeartbeats 4000000 in
theorem sv_X1_init {d : Nat} {M : Mem} {P : Option AV → Mem → Prop} {Q : Mem → Prop} {r0 : Nat × Nat} (hP : ∀ M, Q M → P none M) (h : v_X1_init r0 M Q) : cq (d + 1) mX1_init [.inr r0] M P := by
  refine cq_of (by decide) (Nat.le_of_ble_eq_true rfl) ?_
  show wq (d + 1) mX1_init 0 [(0, .inr r0)] [] M P
  unfold v_X1_init at h
  refine b_aload_n 0 dX1_init_0 rfl rfl ?_
  refine b_obj h.1 q1511 q109 q110 (Nat.le_of_ble_eq_true rfl) dX1_init_1 ?_
  replace h := h.2
  refine b_aload_n 0 dX1_init_4 rfl rfl ?_
  refine b_iconst (v := 0) dX1_init_5 (by decide) ?_
  refine b_pI (ci := 1) (r := (RX1, TX1, 110)) (f := 0) (by decide) rfl (by decide) (Or.inl q1512) (Or.inl rfl) rfl (Or.inl rfl) h.1 dX1_init_6 ?_
  refine b_topm (fun M_1 eM_1 => ?_)
  replace h := h.2 M_1 eM_1
  refine b_aload_n 0 dX1_init_9 rfl rfl ?_
  refine b_iconst (v := 0) dX1_init_10 (by decide) ?_
  refine b_pI (ci := 1) (r := (RX1, TX1, 110)) (f := 1) (by decide) rfl (by decide) (Or.inl q1513) (Or.inl rfl) rfl (Or.inl rfl) h.1 dX1_init_11 ?_
  refine b_topm (fun M_2 eM_2 => ?_)
  replace h := h.2 M_2 eM_2
  refine b_aload_n 0 dX1_init_14 rfl rfl ?_
  refine b_bipush (v := 8) dX1_init_15 (by decide) ?_
  obtain ⟨h1, h2, h3, i_3, ei_3, h⟩ := h
  refine b_nwa (k := 102) (i := i_3) (by decide) (Or.inl rfl) rfl h1 h2 h3 ei_3 q435 dX1_init_17 ?_
  refine b_topm (fun M_4 eM_4 => ?_)
  replace h := h M_4 eM_4
  refine b_fR (ci := 1) (r := (RX1, TX1, 110)) (f := 2) (by decide) rfl (by decide) q1514 (Or.inl rfl) rfl rfl rfl rfl h.1 dX1_init_19 ?_
  refine b_topm (fun M_5 eM_5 => ?_)
  replace h := h.2 M_5 eM_5
  refine b_aload_n 0 dX1_init_22 rfl rfl ?_
  refine b_bipush (v := 8) dX1_init_23 (by decide) ?_
  obtain ⟨h1, h2, h3, i_6, ei_6, h⟩ := h
  refine b_nwa (k := 103) (i := i_6) (by decide) (Or.inl rfl) rfl h1 h2 h3 ei_6 q435 dX1_init_25 ?_
  refine b_topm (fun M_7 eM_7 => ?_)
  replace h := h M_7 eM_7
  refine b_fR (ci := 1) (r := (RX1, TX1, 110)) (f := 3) (by decide) rfl (by decide) q1515 (Or.inl rfl) rfl rfl rfl rfl h.1 dX1_init_27 ?_
  refine b_topm (fun M_8 eM_8 => ?_)
  replace h := h.2 M_8 eM_8
  refine b_aload_n 0 dX1_init_30 rfl rfl ?_
  refine b_bipush (v := 8) dX1_init_31 (by decide) ?_
  obtain ⟨h1, h2, h3, i_9, ei_9, h⟩ := h
  refine b_nwa (k := 104) (i := i_9) (by decide) (Or.inl rfl) rfl h1 h2 h3 ei_9 q435 dX1_init_33 ?_
  refine b_topm (fun M_10 eM_10 => ?_)
  replace h := h M_10 eM_10
  refine b_fR (ci := 1) (r := (RX1, TX1, 110)) (f := 4) (by decide) rfl (by decide) q1516 (Or.inl rfl) rfl rfl rfl rfl h.1 dX1_init_35 ?_
  refine b_topm (fun M_11 eM_11 => ?_)
  replace h := h.2 M_11 eM_11
  refine b_aload_n 0 dX1_init_38 rfl rfl ?_
  refine b_iconst (v := 0) dX1_init_39 (by decide) ?_
  refine b_pI (ci := 1) (r := (RX1, TX1, 110)) (f := 5) (by decide) rfl (by decide) (Or.inl q1517) (Or.inl rfl) rfl (Or.inl rfl) h.1 dX1_init_40 ?_
  refine b_topm (fun M_12 eM_12 => ?_)
  replace h := h.2 M_12 eM_12
  refine b_aload_n 0 dX1_init_43 rfl rfl ?_
  refine b_bipush (v := 30) dX1_init_44 (by decide) ?_
  obtain ⟨h1, h2, h3, i_13, ei_13, h⟩ := h
  refine b_nwa (k := 106) (i := i_13) (by decide) (Or.inl rfl) rfl h1 h2 h3 ei_13 q435 dX1_init_46 ?_
  refine b_topm (fun M_14 eM_14 => ?_)
  replace h := h M_14 eM_14
  refine b_fR (ci := 1) (r := (RX1, TX1, 110)) (f := 6) (by decide) rfl (by decide) q1518 (Or.inl rfl) rfl rfl rfl rfl h.1 dX1_init_48 ?_
  refine b_topm (fun M_15 eM_15 => ?_)
  replace h := h.2 M_15 eM_15
  refine b_aload_n 0 dX1_init_51 rfl rfl ?_
  refine b_bipush (v := 30) dX1_init_52 (by decide) ?_
  obtain ⟨h1, h2, h3, i_16, ei_16, h⟩ := h
  refine b_nwa (k := 107) (i := i_16) (by decide) (Or.inl rfl) rfl h1 h2 h3 ei_16 q435 dX1_init_54 ?_
  refine b_topm (fun M_17 eM_17 => ?_)
  replace h := h M_17 eM_17
  refine b_fR (ci := 1) (r := (RX1, TX1, 110)) (f := 7) (by decide) rfl (by decide) q1519 (Or.inl rfl) rfl rfl rfl rfl h.1 dX1_init_56 ?_
  refine b_topm (fun M_18 eM_18 => ?_)
  replace h := h.2 M_18 eM_18
  refine b_aload_n 0 dX1_init_59 rfl rfl ?_
  refine b_bipush (v := 30) dX1_init_60 (by decide) ?_
  obtain ⟨h1, h2, h3, i_19, ei_19, h⟩ := h
  refine b_nwa (k := 108) (i := i_19) (by decide) (Or.inl rfl) rfl h1 h2 h3 ei_19 q435 dX1_init_62 ?_
  refine b_topm (fun M_20 eM_20 => ?_)
  replace h := h M_20 eM_20
  refine b_fR (ci := 1) (r := (RX1, TX1, 110)) (f := 8) (by decide) rfl (by decide) q1520 (Or.inl rfl) rfl rfl rfl rfl h.1 dX1_init_64 ?_
  refine b_topm (fun M_21 eM_21 => ?_)
  replace h := h.2 M_21 eM_21
  refine b_aload_n 0 dX1_init_67 rfl rfl ?_
  refine b_bipush (v := 30) dX1_init_68 (by decide) ?_
  obtain ⟨h1, h2, h3, i_22, ei_22, h⟩ := h
  refine b_nwa (k := 109) (i := i_22) (by decide) (Or.inl rfl) rfl h1 h2 h3 ei_22 q435 dX1_init_70 ?_
  refine b_topm (fun M_23 eM_23 => ?_)
  replace h := h M_23 eM_23
  refine b_fR (ci := 1) (r := (RX1, TX1, 110)) (f := 9) (by decide) rfl (by decide) q1521 (Or.inl rfl) rfl rfl rfl rfl h.1 dX1_init_72 ?_
  refine b_topm (fun M_24 eM_24 => ?_)
  replace h := h.2 M_24 eM_24
  refine b_aload_n 0 dX1_init_75 rfl rfl ?_
  refine b_bipush (v := 30) dX1_init_76 (by decide) ?_
  obtain ⟨h1, h2, h3, i_25, ei_25, h⟩ := h
  refine b_nwa (k := 110) (i := i_25) (by decide) (Or.inl rfl) rfl h1 h2 h3 ei_25 q435 dX1_init_78 ?_
  refine b_topm (fun M_26 eM_26 => ?_)
  replace h := h M_26 eM_26
  refine b_fR (ci := 1) (r := (RX1, TX1, 110)) (f := 10) (by decide) rfl (by decide) q1522 (Or.inl rfl) rfl rfl rfl rfl h.1 dX1_init_80 ?_
  refine b_topm (fun M_27 eM_27 => ?_)
  replace h := h.2 M_27 eM_27
  refine b_aload_n 0 dX1_init_83 rfl rfl ?_
  refine b_iconst (v := 0) dX1_init_84 (by decide) ?_
  refine b_pI (ci := 1) (r := (RX1, TX1, 110)) (f := 11) (by decide) rfl (by decide) (Or.inl q1523) (Or.inl rfl) rfl (Or.inl rfl) h.1 dX1_init_85 ?_
  refine b_topm (fun M_28 eM_28 => ?_)
  replace h := h.2 M_28 eM_28
  refine b_aload_n 0 dX1_init_88 rfl rfl ?_
  refine b_bipush (v := 30) dX1_init_89 (by decide) ?_
  obtain ⟨h1, h2, h3, i_29, ei_29, h⟩ := h
  refine b_nwa (k := 112) (i := i_29) (by decide) (Or.inl rfl) rfl h1 h2 h3 ei_29 q435 dX1_init_91 ?_
  refine b_topm (fun M_30 eM_30 => ?_)
  replace h := h M_30 eM_30
  refine b_fR (ci := 1) (r := (RX1, TX1, 110)) (f := 12) (by decide) rfl (by decide) q1524 (Or.inl rfl) rfl rfl rfl rfl h.1 dX1_init_93 ?_
  refine b_topm (fun M_31 eM_31 => ?_)
  replace h := h.2 M_31 eM_31
  refine b_aload_n 0 dX1_init_96 rfl rfl ?_
  refine b_bipush (v := 30) dX1_init_97 (by decide) ?_
  obtain ⟨h1, h2, h3, i_32, ei_32, h⟩ := h
  refine b_nwa (k := 113) (i := i_32) (by decide) (Or.inl rfl) rfl h1 h2 h3 ei_32 q435 dX1_init_99 ?_
  refine b_topm (fun M_33 eM_33 => ?_)
  replace h := h M_33 eM_33
  refine b_fR (ci := 1) (r := (RX1, TX1, 110)) (f := 13) (by decide) rfl (by decide) q1525 (Or.inl rfl) rfl rfl rfl rfl h.1 dX1_init_101 ?_
  refine b_topm (fun M_34 eM_34 => ?_)
  replace h := h.2 M_34 eM_34
  refine b_aload_n 0 dX1_init_104 rfl rfl ?_
  refine b_bipush (v := 30) dX1_init_105 (by decide) ?_
  obtain ⟨h1, h2, h3, i_35, ei_35, h⟩ := h
  refine b_nwa (k := 114) (i := i_35) (by decide) (Or.inl rfl) rfl h1 h2 h3 ei_35 q435 dX1_init_107 ?_
  refine b_topm (fun M_36 eM_36 => ?_)
  replace h := h M_36 eM_36
  refine b_fR (ci := 1) (r := (RX1, TX1, 110)) (f := 14) (by decide) rfl (by decide) q1526 (Or.inl rfl) rfl rfl rfl rfl h.1 dX1_init_109 ?_
  refine b_topm (fun M_37 eM_37 => ?_)
  replace h := h.2 M_37 eM_37
  refine b_aload_n 0 dX1_init_112 rfl rfl ?_
  refine b_bipush (v := 30) dX1_init_113 (by decide) ?_
  obtain ⟨h1, h2, h3, i_38, ei_38, h⟩ := h
  refine b_nwa (k := 115) (i := i_38) (by decide) (Or.inl rfl) rfl h1 h2 h3 ei_38 q435 dX1_init_115 ?_
  refine b_topm (fun M_39 eM_39 => ?_)
  replace h := h M_39 eM_39
  refine b_fR (ci := 1) (r := (RX1, TX1, 110)) (f := 15) (by decide) rfl (by decide) q1527 (Or.inl rfl) rfl rfl rfl rfl h.1 dX1_init_117 ?_
  refine b_topm (fun M_40 eM_40 => ?_)
  replace h := h.2 M_40 eM_40
  refine b_aload_n 0 dX1_init_120 rfl rfl ?_
  refine b_bipush (v := 30) dX1_init_121 (by decide) ?_
  obtain ⟨h1, h2, h3, i_41, ei_41, h⟩ := h
  refine b_nwa (k := 116) (i := i_41) (by decide) (Or.inl rfl) rfl h1 h2 h3 ei_41 q435 dX1_init_123 ?_
  refine b_topm (fun M_42 eM_42 => ?_)
  replace h := h M_42 eM_42
  refine b_fR (ci := 1) (r := (RX1, TX1, 110)) (f := 16) (by decide) rfl (by decide) q1528 (Or.inl rfl) rfl rfl rfl rfl h.1 dX1_init_125 ?_
  refine b_topm (fun M_43 eM_43 => ?_)
  replace h := h.2 M_43 eM_43
  refine b_aload_n 0 dX1_init_128 rfl rfl ?_
  refine b_iconst (v := 0) dX1_init_129 (by decide) ?_
  refine b_pI (ci := 1) (r := (RX1, TX1, 110)) (f := 17) (by decide) rfl (by decide) (Or.inl q1529) (Or.inl rfl) rfl (Or.inl rfl) h.1 dX1_init_130 ?_
  refine b_topm (fun M_44 eM_44 => ?_)
  replace h := h.2 M_44 eM_44
  refine b_aload_n 0 dX1_init_133 rfl rfl ?_
  refine b_sipush (v := 4400) dX1_init_134 (by decide) ?_
  obtain ⟨h1, h2, h3, i_45, ei_45, h⟩ := h
  refine b_nwa (k := 118) (i := i_45) (by decide) (Or.inl rfl) rfl h1 h2 h3 ei_45 q435 dX1_init_137 ?_
  refine b_topm (fun M_46 eM_46 => ?_)
  replace h := h M_46 eM_46
  refine b_fR (ci := 1) (r := (RX1, TX1, 110)) (f := 18) (by decide) rfl (by decide) q1530 (Or.inl rfl) rfl rfl rfl rfl h.1 dX1_init_139 ?_
  refine b_topm (fun M_47 eM_47 => ?_)
  replace h := h.2 M_47 eM_47
  refine b_aload_n 0 dX1_init_142 rfl rfl ?_
  refine b_sipush (v := 4400) dX1_init_143 (by decide) ?_
  obtain ⟨h1, h2, h3, i_48, ei_48, h⟩ := h
  refine b_nwa (k := 119) (i := i_48) (by decide) (Or.inl rfl) rfl h1 h2 h3 ei_48 q435 dX1_init_146 ?_
  refine b_topm (fun M_49 eM_49 => ?_)
  replace h := h M_49 eM_49
  refine b_fR (ci := 1) (r := (RX1, TX1, 110)) (f := 19) (by decide) rfl (by decide) q1531 (Or.inl rfl) rfl rfl rfl rfl h.1 dX1_init_148 ?_
  refine b_topm (fun M_50 eM_50 => ?_)
  replace h := h.2 M_50 eM_50
  refine b_aload_n 0 dX1_init_151 rfl rfl ?_
  refine b_sipush (v := 4400) dX1_init_152 (by decide) ?_
  obtain ⟨h1, h2, h3, i_51, ei_51, h⟩ := h
  refine b_nwa (k := 120) (i := i_51) (by decide) (Or.inl rfl) rfl h1 h2 h3 ei_51 q435 dX1_init_155 ?_
  refine b_topm (fun M_52 eM_52 => ?_)
  replace h := h M_52 eM_52
  refine b_fR (ci := 1) (r := (RX1, TX1, 110)) (f := 20) (by decide) rfl (by decide) q1532 (Or.inl rfl) rfl rfl rfl rfl h.1 dX1_init_157 ?_
  refine b_topm (fun M_53 eM_53 => ?_)
  replace h := h.2 M_53 eM_53
  refine b_aload_n 0 dX1_init_160 rfl rfl ?_
  refine b_sipush (v := 4400) dX1_init_161 (by decide) ?_
  obtain ⟨h1, h2, h3, i_54, ei_54, h⟩ := h
  refine b_nwa (k := 121) (i := i_54) (by decide) (Or.inl rfl) rfl h1 h2 h3 ei_54 q435 dX1_init_164 ?_
  refine b_topm (fun M_55 eM_55 => ?_)
  replace h := h M_55 eM_55
  refine b_fR (ci := 1) (r := (RX1, TX1, 110)) (f := 21) (by decide) rfl (by decide) q1533 (Or.inl rfl) rfl rfl rfl rfl h.1 dX1_init_166 ?_
  refine b_topm (fun M_56 eM_56 => ?_)
  replace h := h.2 M_56 eM_56
  refine b_aload_n 0 dX1_init_169 rfl rfl ?_
  refine b_sipush (v := 4400) dX1_init_170 (by decide) ?_
  obtain ⟨h1, h2, h3, i_57, ei_57, h⟩ := h
  refine b_nwa (k := 122) (i := i_57) (by decide) (Or.inl rfl) rfl h1 h2 h3 ei_57 q435 dX1_init_173 ?_
  refine b_topm (fun M_58 eM_58 => ?_)
  replace h := h M_58 eM_58
  refine b_fR (ci := 1) (r := (RX1, TX1, 110)) (f := 22) (by decide) rfl (by decide) q1534 (Or.inl rfl) rfl rfl rfl rfl h.1 dX1_init_175 ?_
  refine b_topm (fun M_59 eM_59 => ?_)
  replace h := h.2 M_59 eM_59
  refine b_aload_n 0 dX1_init_178 rfl rfl ?_
  refine b_iconst (v := 0) dX1_init_179 (by decide) ?_
  refine b_pI (ci := 1) (r := (RX1, TX1, 110)) (f := 23) (by decide) rfl (by decide) (Or.inl q1535) (Or.inl rfl) rfl (Or.inl rfl) h.1 dX1_init_180 ?_
  refine b_topm (fun M_60 eM_60 => ?_)
  replace h := h.2 M_60 eM_60
  refine b_aload_n 0 dX1_init_183 rfl rfl ?_
  refine b_sipush (v := 4400) dX1_init_184 (by decide) ?_
  obtain ⟨h1, h2, h3, i_61, ei_61, h⟩ := h
  refine b_nwa (k := 124) (i := i_61) (by decide) (Or.inl rfl) rfl h1 h2 h3 ei_61 q435 dX1_init_187 ?_
  refine b_topm (fun M_62 eM_62 => ?_)
  replace h := h M_62 eM_62
  refine b_fR (ci := 1) (r := (RX1, TX1, 110)) (f := 24) (by decide) rfl (by decide) q1536 (Or.inl rfl) rfl rfl rfl rfl h.1 dX1_init_189 ?_
  refine b_topm (fun M_63 eM_63 => ?_)
  replace h := h.2 M_63 eM_63
  refine b_aload_n 0 dX1_init_192 rfl rfl ?_
  refine b_sipush (v := 4400) dX1_init_193 (by decide) ?_
  obtain ⟨h1, h2, h3, i_64, ei_64, h⟩ := h
  refine b_nwa (k := 125) (i := i_64) (by decide) (Or.inl rfl) rfl h1 h2 h3 ei_64 q435 dX1_init_196 ?_
  refine b_topm (fun M_65 eM_65 => ?_)
  replace h := h M_65 eM_65
  refine b_fR (ci := 1) (r := (RX1, TX1, 110)) (f := 25) (by decide) rfl (by decide) q1537 (Or.inl rfl) rfl rfl rfl rfl h.1 dX1_init_198 ?_
  refine b_topm (fun M_66 eM_66 => ?_)
  replace h := h.2 M_66 eM_66
  refine b_aload_n 0 dX1_init_201 rfl rfl ?_
  refine b_sipush (v := 4400) dX1_init_202 (by decide) ?_
  obtain ⟨h1, h2, h3, i_67, ei_67, h⟩ := h
  refine b_nwa (k := 126) (i := i_67) (by decide) (Or.inl rfl) rfl h1 h2 h3 ei_67 q435 dX1_init_205 ?_
  refine b_topm (fun M_68 eM_68 => ?_)
  replace h := h M_68 eM_68
  refine b_fR (ci := 1) (r := (RX1, TX1, 110)) (f := 26) (by decide) rfl (by decide) q1538 (Or.inl rfl) rfl rfl rfl rfl h.1 dX1_init_207 ?_
  refine b_topm (fun M_69 eM_69 => ?_)
  replace h := h.2 M_69 eM_69
  refine b_aload_n 0 dX1_init_210 rfl rfl ?_
  refine b_sipush (v := 4400) dX1_init_211 (by decide) ?_
  obtain ⟨h1, h2, h3, i_70, ei_70, h⟩ := h
  refine b_nwa (k := 127) (i := i_70) (by decide) (Or.inl rfl) rfl h1 h2 h3 ei_70 q435 dX1_init_214 ?_
  refine b_topm (fun M_71 eM_71 => ?_)
  replace h := h M_71 eM_71
  refine b_fR (ci := 1) (r := (RX1, TX1, 110)) (f := 27) (by decide) rfl (by decide) q1539 (Or.inl rfl) rfl rfl rfl rfl h.1 dX1_init_216 ?_
  refine b_topm (fun M_72 eM_72 => ?_)
  replace h := h.2 M_72 eM_72
  refine b_aload_n 0 dX1_init_219 rfl rfl ?_
  refine b_sipush (v := 4400) dX1_init_220 (by decide) ?_
  obtain ⟨h1, h2, h3, i_73, ei_73, h⟩ := h
  refine b_nwa (k := 128) (i := i_73) (by decide) (Or.inl rfl) rfl h1 h2 h3 ei_73 q435 dX1_init_223 ?_
  refine b_topm (fun M_74 eM_74 => ?_)
  replace h := h M_74 eM_74
  refine b_fR (ci := 1) (r := (RX1, TX1, 110)) (f := 28) (by decide) rfl (by decide) q1540 (Or.inl rfl) rfl rfl rfl rfl h.1 dX1_init_225 ?_
  refine b_topm (fun M_75 eM_75 => ?_)
  replace h := h.2 M_75 eM_75
  refine b_aload_n 0 dX1_init_228 rfl rfl ?_
  refine b_sipush (v := 4400) dX1_init_229 (by decide) ?_
  obtain ⟨h1, h2, h3, i_76, ei_76, h⟩ := h
  refine b_nwa (k := 129) (i := i_76) (by decide) (Or.inl rfl) rfl h1 h2 h3 ei_76 q435 dX1_init_232 ?_
  refine b_topm (fun M_77 eM_77 => ?_)
  replace h := h M_77 eM_77
  refine b_fR (ci := 1) (r := (RX1, TX1, 110)) (f := 29) (by decide) rfl (by decide) q1541 (Or.inl rfl) rfl rfl rfl rfl h.1 dX1_init_234 ?_
  refine b_topm (fun M_78 eM_78 => ?_)
  replace h := h.2 M_78 eM_78
  refine b_aload_n 0 dX1_init_237 rfl rfl ?_
  refine b_iconst (v := 0) dX1_init_238 (by decide) ?_
  refine b_pI (ci := 1) (r := (RX1, TX1, 110)) (f := 30) (by decide) rfl (by decide) (Or.inl q1542) (Or.inl rfl) rfl (Or.inl rfl) h.1 dX1_init_239 ?_
  refine b_topm (fun M_79 eM_79 => ?_)
  replace h := h.2 M_79 eM_79
  refine b_aload_n 0 dX1_init_242 rfl rfl ?_
  refine b_bipush (v := 24) dX1_init_243 (by decide) ?_
  obtain ⟨h1, h2, h3, i_80, ei_80, h⟩ := h
  refine b_nwa (k := 131) (i := i_80) (by decide) (Or.inl rfl) rfl h1 h2 h3 ei_80 q435 dX1_init_245 ?_
  refine b_topm (fun M_81 eM_81 => ?_)
  replace h := h M_81 eM_81
  refine b_fR (ci := 1) (r := (RX1, TX1, 110)) (f := 31) (by decide) rfl (by decide) q1543 (Or.inl rfl) rfl rfl rfl rfl h.1 dX1_init_247 ?_
  refine b_topm (fun M_82 eM_82 => ?_)
  replace h := h.2 M_82 eM_82
  refine b_aload_n 0 dX1_init_250 rfl rfl ?_
  refine b_bipush (v := 24) dX1_init_251 (by decide) ?_
  obtain ⟨h1, h2, h3, i_83, ei_83, h⟩ := h
  refine b_nwa (k := 132) (i := i_83) (by decide) (Or.inl rfl) rfl h1 h2 h3 ei_83 q435 dX1_init_253 ?_
  refine b_topm (fun M_84 eM_84 => ?_)
  replace h := h M_84 eM_84
  refine b_fR (ci := 1) (r := (RX1, TX1, 110)) (f := 32) (by decide) rfl (by decide) q1544 (Or.inl rfl) rfl rfl rfl rfl h.1 dX1_init_255 ?_
  refine b_topm (fun M_85 eM_85 => ?_)
  replace h := h.2 M_85 eM_85
  refine b_aload_n 0 dX1_init_258 rfl rfl ?_
  refine b_bipush (v := 24) dX1_init_259 (by decide) ?_
  obtain ⟨h1, h2, h3, i_86, ei_86, h⟩ := h
  refine b_nwa (k := 133) (i := i_86) (by decide) (Or.inl rfl) rfl h1 h2 h3 ei_86 q435 dX1_init_261 ?_
  refine b_topm (fun M_87 eM_87 => ?_)
  replace h := h M_87 eM_87
  refine b_fR (ci := 1) (r := (RX1, TX1, 110)) (f := 33) (by decide) rfl (by decide) q1545 (Or.inl rfl) rfl rfl rfl rfl h.1 dX1_init_263 ?_
  refine b_topm (fun M_88 eM_88 => ?_)
  replace h := h.2 M_88 eM_88
  refine b_aload_n 0 dX1_init_266 rfl rfl ?_
  refine b_bipush (v := 24) dX1_init_267 (by decide) ?_
  obtain ⟨h1, h2, h3, i_89, ei_89, h⟩ := h
  refine b_nwa (k := 134) (i := i_89) (by decide) (Or.inl rfl) rfl h1 h2 h3 ei_89 q435 dX1_init_269 ?_
  refine b_topm (fun M_90 eM_90 => ?_)
  replace h := h M_90 eM_90
  refine b_fR (ci := 1) (r := (RX1, TX1, 110)) (f := 34) (by decide) rfl (by decide) q1546 (Or.inl rfl) rfl rfl rfl rfl h.1 dX1_init_271 ?_
  refine b_topm (fun M_91 eM_91 => ?_)
  replace h := h.2 M_91 eM_91
  refine b_aload_n 0 dX1_init_274 rfl rfl ?_
  refine b_bipush (v := 24) dX1_init_275 (by decide) ?_
  obtain ⟨h1, h2, h3, i_92, ei_92, h⟩ := h
  refine b_nwa (k := 135) (i := i_92) (by decide) (Or.inl rfl) rfl h1 h2 h3 ei_92 q435 dX1_init_277 ?_
  refine b_topm (fun M_93 eM_93 => ?_)
  replace h := h M_93 eM_93
  refine b_fR (ci := 1) (r := (RX1, TX1, 110)) (f := 35) (by decide) rfl (by decide) q1547 (Or.inl rfl) rfl rfl rfl rfl h.1 dX1_init_279 ?_
  refine b_topm (fun M_94 eM_94 => ?_)
  replace h := h.2 M_94 eM_94
  refine b_aload_n 0 dX1_init_282 rfl rfl ?_
  refine b_bipush (v := 24) dX1_init_283 (by decide) ?_
  obtain ⟨h1, h2, h3, i_95, ei_95, h⟩ := h
  refine b_nwa (k := 136) (i := i_95) (by decide) (Or.inl rfl) rfl h1 h2 h3 ei_95 q435 dX1_init_285 ?_
  refine b_topm (fun M_96 eM_96 => ?_)
  replace h := h M_96 eM_96
  refine b_fR (ci := 1) (r := (RX1, TX1, 110)) (f := 36) (by decide) rfl (by decide) q1548 (Or.inl rfl) rfl rfl rfl rfl h.1 dX1_init_287 ?_
  refine b_topm (fun M_97 eM_97 => ?_)
  replace h := h.2 M_97 eM_97
  refine b_aload_n 0 dX1_init_290 rfl rfl ?_
  refine b_bipush (v := 24) dX1_init_291 (by decide) ?_
  obtain ⟨h1, h2, h3, i_98, ei_98, h⟩ := h
  refine b_nwa (k := 137) (i := i_98) (by decide) (Or.inl rfl) rfl h1 h2 h3 ei_98 q435 dX1_init_293 ?_
  refine b_topm (fun M_99 eM_99 => ?_)
  replace h := h M_99 eM_99
  refine b_fR (ci := 1) (r := (RX1, TX1, 110)) (f := 37) (by decide) rfl (by decide) q1549 (Or.inl rfl) rfl rfl rfl rfl h.1 dX1_init_295 ?_
  refine b_topm (fun M_100 eM_100 => ?_)
  replace h := h.2 M_100 eM_100
  refine b_aload_n 0 dX1_init_298 rfl rfl ?_
  refine b_bipush (v := 24) dX1_init_299 (by decide) ?_
  obtain ⟨h1, h2, h3, i_101, ei_101, h⟩ := h
  refine b_nwa (k := 138) (i := i_101) (by decide) (Or.inl rfl) rfl h1 h2 h3 ei_101 q435 dX1_init_301 ?_
  refine b_topm (fun M_102 eM_102 => ?_)
  replace h := h M_102 eM_102
  refine b_fR (ci := 1) (r := (RX1, TX1, 110)) (f := 38) (by decide) rfl (by decide) q1550 (Or.inl rfl) rfl rfl rfl rfl h.1 dX1_init_303 ?_
  refine b_topm (fun M_103 eM_103 => ?_)
  replace h := h.2 M_103 eM_103
  refine b_aload_n 0 dX1_init_306 rfl rfl ?_
  refine b_bipush (v := 24) dX1_init_307 (by decide) ?_
  obtain ⟨h1, h2, h3, i_104, ei_104, h⟩ := h
  refine b_nwa (k := 139) (i := i_104) (by decide) (Or.inl rfl) rfl h1 h2 h3 ei_104 q435 dX1_init_309 ?_
  refine b_topm (fun M_105 eM_105 => ?_)
  replace h := h M_105 eM_105
  refine b_fR (ci := 1) (r := (RX1, TX1, 110)) (f := 39) (by decide) rfl (by decide) q1551 (Or.inl rfl) rfl rfl rfl rfl h.1 dX1_init_311 ?_
  refine b_topm (fun M_106 eM_106 => ?_)
  replace h := h.2 M_106 eM_106
  refine b_aload_n 0 dX1_init_314 rfl rfl ?_
  refine b_bipush (v := 24) dX1_init_315 (by decide) ?_
  obtain ⟨h1, h2, h3, i_107, ei_107, h⟩ := h
  refine b_nwa (k := 140) (i := i_107) (by decide) (Or.inl rfl) rfl h1 h2 h3 ei_107 q435 dX1_init_317 ?_
  refine b_topm (fun M_108 eM_108 => ?_)
  replace h := h M_108 eM_108
  refine b_fR (ci := 1) (r := (RX1, TX1, 110)) (f := 40) (by decide) rfl (by decide) q1552 (Or.inl rfl) rfl rfl rfl rfl h.1 dX1_init_319 ?_
  refine b_topm (fun M_109 eM_109 => ?_)
  replace h := h.2 M_109 eM_109
  refine b_aload_n 0 dX1_init_322 rfl rfl ?_
  refine b_bipush (v := 24) dX1_init_323 (by decide) ?_
  obtain ⟨h1, h2, h3, i_110, ei_110, h⟩ := h
  refine b_nwa (k := 141) (i := i_110) (by decide) (Or.inl rfl) rfl h1 h2 h3 ei_110 q435 dX1_init_325 ?_
  refine b_topm (fun M_111 eM_111 => ?_)
  replace h := h M_111 eM_111
  refine b_fR (ci := 1) (r := (RX1, TX1, 110)) (f := 41) (by decide) rfl (by decide) q1553 (Or.inl rfl) rfl rfl rfl rfl h.1 dX1_init_327 ?_
  refine b_topm (fun M_112 eM_112 => ?_)
  replace h := h.2 M_112 eM_112
  refine b_aload_n 0 dX1_init_330 rfl rfl ?_
  refine b_bipush (v := 24) dX1_init_331 (by decide) ?_
  obtain ⟨h1, h2, h3, i_113, ei_113, h⟩ := h
  refine b_nwa (k := 142) (i := i_113) (by decide) (Or.inl rfl) rfl h1 h2 h3 ei_113 q435 dX1_init_333 ?_
  refine b_topm (fun M_114 eM_114 => ?_)
  replace h := h M_114 eM_114
  refine b_fR (ci := 1) (r := (RX1, TX1, 110)) (f := 42) (by decide) rfl (by decide) q1554 (Or.inl rfl) rfl rfl rfl rfl h.1 dX1_init_335 ?_
  refine b_topm (fun M_115 eM_115 => ?_)
  replace h := h.2 M_115 eM_115
  refine b_aload_n 0 dX1_init_338 rfl rfl ?_
  refine b_sipush (v := 240) dX1_init_339 (by decide) ?_
  obtain ⟨h1, h2, h3, i_116, ei_116, h⟩ := h
  refine b_nwa (k := 143) (i := i_116) (by decide) (Or.inl rfl) rfl h1 h2 h3 ei_116 q435 dX1_init_342 ?_
  refine b_topm (fun M_117 eM_117 => ?_)
  replace h := h M_117 eM_117
  refine b_fR (ci := 1) (r := (RX1, TX1, 110)) (f := 43) (by decide) rfl (by decide) q1555 (Or.inl rfl) rfl rfl rfl rfl h.1 dX1_init_344 ?_
  refine b_topm (fun M_118 eM_118 => ?_)
  replace h := h.2 M_118 eM_118
  refine b_aload_n 0 dX1_init_347 rfl rfl ?_
  refine b_sipush (v := 192) dX1_init_348 (by decide) ?_
  obtain ⟨h1, h2, h3, i_119, ei_119, h⟩ := h
  refine b_nwa (k := 144) (i := i_119) (by decide) (Or.inl rfl) rfl h1 h2 h3 ei_119 q435 dX1_init_351 ?_
  refine b_topm (fun M_120 eM_120 => ?_)
  replace h := h M_120 eM_120
  refine b_fR (ci := 1) (r := (RX1, TX1, 110)) (f := 44) (by decide) rfl (by decide) q1556 (Or.inl rfl) rfl rfl rfl rfl h.1 dX1_init_353 ?_
  refine b_topm (fun M_121 eM_121 => ?_)
  replace h := h.2 M_121 eM_121
  refine b_aload_n 0 dX1_init_356 rfl rfl ?_
  refine b_sipush (v := 192) dX1_init_357 (by decide) ?_
  obtain ⟨h1, h2, h3, i_122, ei_122, h⟩ := h
  refine b_nwa (k := 145) (i := i_122) (by decide) (Or.inl rfl) rfl h1 h2 h3 ei_122 q435 dX1_init_360 ?_
  refine b_topm (fun M_123 eM_123 => ?_)
  replace h := h M_123 eM_123
  refine b_fR (ci := 1) (r := (RX1, TX1, 110)) (f := 45) (by decide) rfl (by decide) q1557 (Or.inl rfl) rfl rfl rfl rfl h.1 dX1_init_362 ?_
  refine b_topm (fun M_124 eM_124 => ?_)
  replace h := h.2 M_124 eM_124
  refine b_aload_n 0 dX1_init_365 rfl rfl ?_
  refine b_sipush (v := 192) dX1_init_366 (by decide) ?_
  obtain ⟨h1, h2, h3, i_125, ei_125, h⟩ := h
  refine b_nwa (k := 146) (i := i_125) (by decide) (Or.inr rfl) rfl h1 h2 h3 ei_125 q585 dX1_init_369 ?_
  refine b_topm (fun M_126 eM_126 => ?_)
  replace h := h M_126 eM_126
  refine b_fR (ci := 1) (r := (RX1, TX1, 110)) (f := 46) (by decide) rfl (by decide) q1558 (Or.inl rfl) rfl rfl rfl rfl h.1 dX1_init_371 ?_
  refine b_topm (fun M_127 eM_127 => ?_)
  replace h := h.2 M_127 eM_127
  refine b_aload_n 0 dX1_init_374 rfl rfl ?_
  refine b_iconst (v := 0) dX1_init_375 (by decide) ?_
  refine b_pI (ci := 1) (r := (RX1, TX1, 110)) (f := 47) (by decide) rfl (by decide) (Or.inl q1559) (Or.inl rfl) rfl (Or.inl rfl) h.1 dX1_init_376 ?_
  refine b_topm (fun M_128 eM_128 => ?_)
  replace h := h.2 M_128 eM_128
  refine b_aload_n 0 dX1_init_379 rfl rfl ?_
  refine b_bipush (v := 11) dX1_init_380 (by decide) ?_
  obtain ⟨h1, h2, h3, i_129, ei_129, h⟩ := h
  refine b_nwa (k := 148) (i := i_129) (by decide) (Or.inl rfl) rfl h1 h2 h3 ei_129 q435 dX1_init_382 ?_
  refine b_topm (fun M_130 eM_130 => ?_)
  replace h := h M_130 eM_130
  refine b_fR (ci := 1) (r := (RX1, TX1, 110)) (f := 48) (by decide) rfl (by decide) q1560 (Or.inl rfl) rfl rfl rfl rfl h.1 dX1_init_384 ?_
  refine b_topm (fun M_131 eM_131 => ?_)
  replace h := h.2 M_131 eM_131
  refine b_aload_n 0 dX1_init_387 rfl rfl ?_
  refine b_bipush (v := 55) dX1_init_388 (by decide) ?_
  obtain ⟨h1, h2, h3, i_132, ei_132, h⟩ := h
  refine b_nwa (k := 149) (i := i_132) (by decide) (Or.inl rfl) rfl h1 h2 h3 ei_132 q435 dX1_init_390 ?_
  refine b_topm (fun M_133 eM_133 => ?_)
  replace h := h M_133 eM_133
  refine b_fR (ci := 1) (r := (RX1, TX1, 110)) (f := 49) (by decide) rfl (by decide) q1561 (Or.inl rfl) rfl rfl rfl rfl h.1 dX1_init_392 ?_
  refine b_topm (fun M_134 eM_134 => ?_)
  replace h := h.2 M_134 eM_134
  refine b_aload_n 0 dX1_init_395 rfl rfl ?_
  refine b_iconst (v := 0) dX1_init_396 (by decide) ?_
  refine b_pI (ci := 1) (r := (RX1, TX1, 110)) (f := 50) (by decide) rfl (by decide) (Or.inl q1562) (Or.inl rfl) rfl (Or.inl rfl) h.1 dX1_init_397 ?_
  refine b_topm (fun M_135 eM_135 => ?_)
  replace h := h.2 M_135 eM_135
  refine b_aload_n 0 dX1_init_400 rfl rfl ?_
  refine b_bipush (v := 60) dX1_init_401 (by decide) ?_
  obtain ⟨h1, h2, h3, i_136, ei_136, h⟩ := h
  refine b_nwa (k := 151) (i := i_136) (by decide) (Or.inl rfl) rfl h1 h2 h3 ei_136 q435 dX1_init_403 ?_
  refine b_topm (fun M_137 eM_137 => ?_)
  replace h := h M_137 eM_137
  refine b_fR (ci := 1) (r := (RX1, TX1, 110)) (f := 51) (by decide) rfl (by decide) q1563 (Or.inl rfl) rfl rfl rfl rfl h.1 dX1_init_405 ?_
  refine b_topm (fun M_138 eM_138 => ?_)
  replace h := h.2 M_138 eM_138
  refine b_aload_n 0 dX1_init_408 rfl rfl ?_
  refine b_bipush (v := 60) dX1_init_409 (by decide) ?_
  obtain ⟨h1, h2, h3, i_139, ei_139, h⟩ := h
  refine b_nwa (k := 152) (i := i_139) (by decide) (Or.inl rfl) rfl h1 h2 h3 ei_139 q435 dX1_init_411 ?_
  refine b_topm (fun M_140 eM_140 => ?_)
  replace h := h M_140 eM_140
  refine b_fR (ci := 1) (r := (RX1, TX1, 110)) (f := 52) (by decide) rfl (by decide) q1564 (Or.inl rfl) rfl rfl rfl rfl h.1 dX1_init_413 ?_
  refine b_topm (fun M_141 eM_141 => ?_)
  replace h := h.2 M_141 eM_141
  refine b_aload_n 0 dX1_init_416 rfl rfl ?_
  refine b_bipush (v := 60) dX1_init_417 (by decide) ?_
  obtain ⟨h1, h2, h3, i_142, ei_142, h⟩ := h
  refine b_nwa (k := 153) (i := i_142) (by decide) (Or.inl rfl) rfl h1 h2 h3 ei_142 q435 dX1_init_419 ?_
  refine b_topm (fun M_143 eM_143 => ?_)
  replace h := h M_143 eM_143
  refine b_fR (ci := 1) (r := (RX1, TX1, 110)) (f := 53) (by decide) rfl (by decide) q1565 (Or.inl rfl) rfl rfl rfl rfl h.1 dX1_init_421 ?_
  refine b_topm (fun M_144 eM_144 => ?_)
  replace h := h.2 M_144 eM_144
  refine b_aload_n 0 dX1_init_424 rfl rfl ?_
  refine b_bipush (v := 60) dX1_init_425 (by decide) ?_
  obtain ⟨h1, h2, h3, i_145, ei_145, h⟩ := h
  refine b_nwa (k := 154) (i := i_145) (by decide) (Or.inl rfl) rfl h1 h2 h3 ei_145 q435 dX1_init_427 ?_
  refine b_topm (fun M_146 eM_146 => ?_)
  replace h := h M_146 eM_146
  refine b_fR (ci := 1) (r := (RX1, TX1, 110)) (f := 54) (by decide) rfl (by decide) q1566 (Or.inl rfl) rfl rfl rfl rfl h.1 dX1_init_429 ?_
  refine b_topm (fun M_147 eM_147 => ?_)
  replace h := h.2 M_147 eM_147
  refine b_aload_n 0 dX1_init_432 rfl rfl ?_
  refine b_bipush (v := 60) dX1_init_433 (by decide) ?_
  obtain ⟨h1, h2, h3, i_148, ei_148, h⟩ := h
  refine b_nwa (k := 155) (i := i_148) (by decide) (Or.inl rfl) rfl h1 h2 h3 ei_148 q435 dX1_init_435 ?_
  refine b_topm (fun M_149 eM_149 => ?_)
  replace h := h M_149 eM_149
  refine b_fR (ci := 1) (r := (RX1, TX1, 110)) (f := 55) (by decide) rfl (by decide) q1567 (Or.inl rfl) rfl rfl rfl rfl h.1 dX1_init_437 ?_
  refine b_topm (fun M_150 eM_150 => ?_)
  replace h := h.2 M_150 eM_150
  refine b_aload_n 0 dX1_init_440 rfl rfl ?_
  refine b_bipush (v := 60) dX1_init_441 (by decide) ?_
  obtain ⟨h1, h2, h3, i_151, ei_151, h⟩ := h
  refine b_nwa (k := 156) (i := i_151) (by decide) (Or.inl rfl) rfl h1 h2 h3 ei_151 q435 dX1_init_443 ?_
  refine b_topm (fun M_152 eM_152 => ?_)
  replace h := h M_152 eM_152
  refine b_fR (ci := 1) (r := (RX1, TX1, 110)) (f := 56) (by decide) rfl (by decide) q1568 (Or.inl rfl) rfl rfl rfl rfl h.1 dX1_init_445 ?_
  refine b_topm (fun M_153 eM_153 => ?_)
  replace h := h.2 M_153 eM_153
  refine b_aload_n 0 dX1_init_448 rfl rfl ?_
  refine b_bipush (v := 60) dX1_init_449 (by decide) ?_
  obtain ⟨h1, h2, h3, i_154, ei_154, h⟩ := h
  refine b_nwa (k := 157) (i := i_154) (by decide) (Or.inl rfl) rfl h1 h2 h3 ei_154 q435 dX1_init_451 ?_
  refine b_topm (fun M_155 eM_155 => ?_)
  replace h := h M_155 eM_155
  refine b_fR (ci := 1) (r := (RX1, TX1, 110)) (f := 57) (by decide) rfl (by decide) q1569 (Or.inl rfl) rfl rfl rfl rfl h.1 dX1_init_453 ?_
  refine b_topm (fun M_156 eM_156 => ?_)
  replace h := h.2 M_156 eM_156
  refine b_aload_n 0 dX1_init_456 rfl rfl ?_
  refine b_bipush (v := 60) dX1_init_457 (by decide) ?_
  obtain ⟨h1, h2, h3, i_157, ei_157, h⟩ := h
  refine b_nwa (k := 158) (i := i_157) (by decide) (Or.inl rfl) rfl h1 h2 h3 ei_157 q435 dX1_init_459 ?_
  refine b_topm (fun M_158 eM_158 => ?_)
  replace h := h M_158 eM_158
  refine b_fR (ci := 1) (r := (RX1, TX1, 110)) (f := 58) (by decide) rfl (by decide) q1570 (Or.inl rfl) rfl rfl rfl rfl h.1 dX1_init_461 ?_
  refine b_topm (fun M_159 eM_159 => ?_)
  replace h := h.2 M_159 eM_159
  refine b_aload_n 0 dX1_init_464 rfl rfl ?_
  refine b_bipush (v := 60) dX1_init_465 (by decide) ?_
  obtain ⟨h1, h2, h3, i_160, ei_160, h⟩ := h
  refine b_nwa (k := 159) (i := i_160) (by decide) (Or.inl rfl) rfl h1 h2 h3 ei_160 q435 dX1_init_467 ?_
  refine b_topm (fun M_161 eM_161 => ?_)
  replace h := h M_161 eM_161
  refine b_fR (ci := 1) (r := (RX1, TX1, 110)) (f := 59) (by decide) rfl (by decide) q1571 (Or.inl rfl) rfl rfl rfl rfl h.1 dX1_init_469 ?_
  refine b_topm (fun M_162 eM_162 => ?_)
  replace h := h.2 M_162 eM_162
  refine b_aload_n 0 dX1_init_472 rfl rfl ?_
  refine b_iconst (v := 0) dX1_init_473 (by decide) ?_
  refine b_pI (ci := 1) (r := (RX1, TX1, 110)) (f := 60) (by decide) rfl (by decide) (Or.inl q1572) (Or.inl rfl) rfl (Or.inl rfl) h.1 dX1_init_474 ?_
  refine b_topm (fun M_163 eM_163 => ?_)
  replace h := h.2 M_163 eM_163
  refine b_aload_n 0 dX1_init_477 rfl rfl ?_
  refine b_iconst (v := 0) dX1_init_478 (by decide) ?_
  refine b_pI (ci := 1) (r := (RX1, TX1, 110)) (f := 61) (by decide) rfl (by decide) (Or.inl q1573) (Or.inl rfl) rfl (Or.inl rfl) h.1 dX1_init_479 ?_
  refine b_topm (fun M_164 eM_164 => ?_)
  replace h := h.2 M_164 eM_164
  refine b_aload_n 0 dX1_init_482 rfl rfl ?_
  refine b_sipush (v := 4400) dX1_init_483 (by decide) ?_
  obtain ⟨h1, h2, h3, i_165, ei_165, h⟩ := h
  refine b_nwa (k := 162) (i := i_165) (by decide) (Or.inl rfl) rfl h1 h2 h3 ei_165 q435 dX1_init_486 ?_
  refine b_topm (fun M_166 eM_166 => ?_)
  replace h := h M_166 eM_166
  refine b_fR (ci := 1) (r := (RX1, TX1, 110)) (f := 62) (by decide) rfl (by decide) q1574 (Or.inl rfl) rfl rfl rfl rfl h.1 dX1_init_488 ?_
  refine b_topm (fun M_167 eM_167 => ?_)
  replace h := h.2 M_167 eM_167
  refine b_aload_n 0 dX1_init_491 rfl rfl ?_
  refine b_sipush (v := 4400) dX1_init_492 (by decide) ?_
  obtain ⟨h1, h2, h3, i_168, ei_168, h⟩ := h
  refine b_nwa (k := 163) (i := i_168) (by decide) (Or.inl rfl) rfl h1 h2 h3 ei_168 q435 dX1_init_495 ?_
  refine b_topm (fun M_169 eM_169 => ?_)
  replace h := h M_169 eM_169
  refine b_fR (ci := 1) (r := (RX1, TX1, 110)) (f := 63) (by decide) rfl (by decide) q1575 (Or.inl rfl) rfl rfl rfl rfl h.1 dX1_init_497 ?_
  refine b_topm (fun M_170 eM_170 => ?_)
  replace h := h.2 M_170 eM_170
  refine b_aload_n 0 dX1_init_500 rfl rfl ?_
  refine b_sipush (v := 4400) dX1_init_501 (by decide) ?_
  obtain ⟨h1, h2, h3, i_171, ei_171, h⟩ := h
  refine b_nwa (k := 164) (i := i_171) (by decide) (Or.inl rfl) rfl h1 h2 h3 ei_171 q435 dX1_init_504 ?_
  refine b_topm (fun M_172 eM_172 => ?_)
  replace h := h M_172 eM_172
  refine b_fR (ci := 1) (r := (RX1, TX1, 110)) (f := 64) (by decide) rfl (by decide) q1576 (Or.inl rfl) rfl rfl rfl rfl h.1 dX1_init_506 ?_
  refine b_topm (fun M_173 eM_173 => ?_)
  replace h := h.2 M_173 eM_173
  refine b_aload_n 0 dX1_init_509 rfl rfl ?_
  refine b_sipush (v := 4400) dX1_init_510 (by decide) ?_
  obtain ⟨h1, h2, h3, i_174, ei_174, h⟩ := h
  refine b_nwa (k := 165) (i := i_174) (by decide) (Or.inl rfl) rfl h1 h2 h3 ei_174 q435 dX1_init_513 ?_
  refine b_topm (fun M_175 eM_175 => ?_)
  replace h := h M_175 eM_175
  refine b_fR (ci := 1) (r := (RX1, TX1, 110)) (f := 65) (by decide) rfl (by decide) q1577 (Or.inl rfl) rfl rfl rfl rfl h.1 dX1_init_515 ?_
  refine b_topm (fun M_176 eM_176 => ?_)
  replace h := h.2 M_176 eM_176
  refine b_aload_n 0 dX1_init_518 rfl rfl ?_
  refine b_sipush (v := 4400) dX1_init_519 (by decide) ?_
  obtain ⟨h1, h2, h3, i_177, ei_177, h⟩ := h
  refine b_nwa (k := 166) (i := i_177) (by decide) (Or.inl rfl) rfl h1 h2 h3 ei_177 q435 dX1_init_522 ?_
  refine b_topm (fun M_178 eM_178 => ?_)
  replace h := h M_178 eM_178
  refine b_fR (ci := 1) (r := (RX1, TX1, 110)) (f := 66) (by decide) rfl (by decide) q1578 (Or.inl rfl) rfl rfl rfl rfl h.1 dX1_init_524 ?_
  refine b_topm (fun M_179 eM_179 => ?_)
  replace h := h.2 M_179 eM_179
  refine b_aload_n 0 dX1_init_527 rfl rfl ?_
  refine b_sipush (v := 4400) dX1_init_528 (by decide) ?_
  obtain ⟨h1, h2, h3, i_180, ei_180, h⟩ := h
  refine b_nwa (k := 167) (i := i_180) (by decide) (Or.inl rfl) rfl h1 h2 h3 ei_180 q435 dX1_init_531 ?_
  refine b_topm (fun M_181 eM_181 => ?_)
  replace h := h M_181 eM_181
  refine b_fR (ci := 1) (r := (RX1, TX1, 110)) (f := 67) (by decide) rfl (by decide) q1579 (Or.inl rfl) rfl rfl rfl rfl h.1 dX1_init_533 ?_
  refine b_topm (fun M_182 eM_182 => ?_)
  replace h := h.2 M_182 eM_182
  refine b_aload_n 0 dX1_init_536 rfl rfl ?_
  refine b_sipush (v := 4400) dX1_init_537 (by decide) ?_
  obtain ⟨h1, h2, h3, i_183, ei_183, h⟩ := h
  refine b_nwa (k := 168) (i := i_183) (by decide) (Or.inl rfl) rfl h1 h2 h3 ei_183 q435 dX1_init_540 ?_
  refine b_topm (fun M_184 eM_184 => ?_)
  replace h := h M_184 eM_184
  refine b_fR (ci := 1) (r := (RX1, TX1, 110)) (f := 68) (by decide) rfl (by decide) q1580 (Or.inl rfl) rfl rfl rfl rfl h.1 dX1_init_542 ?_
  refine b_topm (fun M_185 eM_185 => ?_)
  replace h := h.2 M_185 eM_185
  refine b_aload_n 0 dX1_init_545 rfl rfl ?_
  refine b_sipush (v := 4400) dX1_init_546 (by decide) ?_
  obtain ⟨h1, h2, h3, i_186, ei_186, h⟩ := h
  refine b_nwa (k := 169) (i := i_186) (by decide) (Or.inl rfl) rfl h1 h2 h3 ei_186 q435 dX1_init_549 ?_
  refine b_topm (fun M_187 eM_187 => ?_)
  replace h := h M_187 eM_187
  refine b_fR (ci := 1) (r := (RX1, TX1, 110)) (f := 69) (by decide) rfl (by decide) q1581 (Or.inl rfl) rfl rfl rfl rfl h.1 dX1_init_551 ?_
  refine b_topm (fun M_188 eM_188 => ?_)
  replace h := h.2 M_188 eM_188
  refine b_aload_n 0 dX1_init_554 rfl rfl ?_
  refine b_sipush (v := 4400) dX1_init_555 (by decide) ?_
  obtain ⟨h1, h2, h3, i_189, ei_189, h⟩ := h
  refine b_nwa (k := 170) (i := i_189) (by decide) (Or.inl rfl) rfl h1 h2 h3 ei_189 q435 dX1_init_558 ?_
  refine b_topm (fun M_190 eM_190 => ?_)
  replace h := h M_190 eM_190
  refine b_fR (ci := 1) (r := (RX1, TX1, 110)) (f := 70) (by decide) rfl (by decide) q1582 (Or.inl rfl) rfl rfl rfl rfl h.1 dX1_init_560 ?_
  refine b_topm (fun M_191 eM_191 => ?_)
  replace h := h.2 M_191 eM_191
  refine b_aload_n 0 dX1_init_563 rfl rfl ?_
  refine b_sipush (v := 4400) dX1_init_564 (by decide) ?_
  obtain ⟨h1, h2, h3, i_192, ei_192, h⟩ := h
  refine b_nwa (k := 171) (i := i_192) (by decide) (Or.inr rfl) rfl h1 h2 h3 ei_192 q585 dX1_init_567 ?_
  refine b_topm (fun M_193 eM_193 => ?_)
  replace h := h M_193 eM_193
  refine b_fR (ci := 1) (r := (RX1, TX1, 110)) (f := 71) (by decide) rfl (by decide) q1583 (Or.inl rfl) rfl rfl rfl rfl h.1 dX1_init_569 ?_
  refine b_topm (fun M_194 eM_194 => ?_)
  replace h := h.2 M_194 eM_194
  refine b_aload_n 0 dX1_init_572 rfl rfl ?_
  refine b_sipush (v := 4400) dX1_init_573 (by decide) ?_
  obtain ⟨h1, h2, h3, i_195, ei_195, h⟩ := h
  refine b_nwa (k := 172) (i := i_195) (by decide) (Or.inl rfl) rfl h1 h2 h3 ei_195 q435 dX1_init_576 ?_
  refine b_topm (fun M_196 eM_196 => ?_)
  replace h := h M_196 eM_196
  refine b_fR (ci := 1) (r := (RX1, TX1, 110)) (f := 72) (by decide) rfl (by decide) q1584 (Or.inl rfl) rfl rfl rfl rfl h.1 dX1_init_578 ?_
  refine b_topm (fun M_197 eM_197 => ?_)
  replace h := h.2 M_197 eM_197
  refine b_aload_n 0 dX1_init_581 rfl rfl ?_
  refine b_sipush (v := 4400) dX1_init_582 (by decide) ?_
  obtain ⟨h1, h2, h3, i_198, ei_198, h⟩ := h
  refine b_nwa (k := 173) (i := i_198) (by decide) (Or.inl rfl) rfl h1 h2 h3 ei_198 q435 dX1_init_585 ?_
  refine b_topm (fun M_199 eM_199 => ?_)
  replace h := h M_199 eM_199
  refine b_fR (ci := 1) (r := (RX1, TX1, 110)) (f := 73) (by decide) rfl (by decide) q1585 (Or.inl rfl) rfl rfl rfl rfl h.1 dX1_init_587 ?_
  refine b_topm (fun M_200 eM_200 => ?_)
  replace h := h.2 M_200 eM_200
  refine b_aload_n 0 dX1_init_590 rfl rfl ?_
  refine b_sipush (v := 4400) dX1_init_591 (by decide) ?_
  obtain ⟨h1, h2, h3, i_201, ei_201, h⟩ := h
  refine b_nwa (k := 174) (i := i_201) (by decide) (Or.inl rfl) rfl h1 h2 h3 ei_201 q435 dX1_init_594 ?_
  refine b_topm (fun M_202 eM_202 => ?_)
  replace h := h M_202 eM_202
  refine b_fR (ci := 1) (r := (RX1, TX1, 110)) (f := 74) (by decide) rfl (by decide) q1586 (Or.inl rfl) rfl rfl rfl rfl h.1 dX1_init_596 ?_
  refine b_topm (fun M_203 eM_203 => ?_)
  replace h := h.2 M_203 eM_203
  refine b_aload_n 0 dX1_init_599 rfl rfl ?_
  refine b_sipush (v := 4400) dX1_init_600 (by decide) ?_
  obtain ⟨h1, h2, h3, i_204, ei_204, h⟩ := h
  refine b_nwa (k := 175) (i := i_204) (by decide) (Or.inr rfl) rfl h1 h2 h3 ei_204 q585 dX1_init_603 ?_
  refine b_topm (fun M_205 eM_205 => ?_)
  replace h := h M_205 eM_205
  refine b_fR (ci := 1) (r := (RX1, TX1, 110)) (f := 75) (by decide) rfl (by decide) q1587 (Or.inl rfl) rfl rfl rfl rfl h.1 dX1_init_605 ?_
  refine b_topm (fun M_206 eM_206 => ?_)
  replace h := h.2 M_206 eM_206
  refine b_aload_n 0 dX1_init_608 rfl rfl ?_
  refine b_sipush (v := 4400) dX1_init_609 (by decide) ?_
  obtain ⟨h1, h2, h3, i_207, ei_207, h⟩ := h
  refine b_nwa (k := 176) (i := i_207) (by decide) (Or.inr rfl) rfl h1 h2 h3 ei_207 q585 dX1_init_612 ?_
  refine b_topm (fun M_208 eM_208 => ?_)
  replace h := h M_208 eM_208
  refine b_fR (ci := 1) (r := (RX1, TX1, 110)) (f := 76) (by decide) rfl (by decide) q1588 (Or.inl rfl) rfl rfl rfl rfl h.1 dX1_init_614 ?_
  refine b_topm (fun M_209 eM_209 => ?_)
  replace h := h.2 M_209 eM_209
  refine b_aload_n 0 dX1_init_617 rfl rfl ?_
  refine b_sipush (v := 4400) dX1_init_618 (by decide) ?_
  obtain ⟨h1, h2, h3, i_210, ei_210, h⟩ := h
  refine b_nwa (k := 177) (i := i_210) (by decide) (Or.inr rfl) rfl h1 h2 h3 ei_210 q585 dX1_init_621 ?_
  refine b_topm (fun M_211 eM_211 => ?_)
  replace h := h M_211 eM_211
  refine b_fR (ci := 1) (r := (RX1, TX1, 110)) (f := 77) (by decide) rfl (by decide) q1589 (Or.inl rfl) rfl rfl rfl rfl h.1 dX1_init_623 ?_
  refine b_topm (fun M_212 eM_212 => ?_)
  replace h := h.2 M_212 eM_212
  refine b_aload_n 0 dX1_init_626 rfl rfl ?_
  refine b_sipush (v := 4400) dX1_init_627 (by decide) ?_
  obtain ⟨h1, h2, h3, i_213, ei_213, h⟩ := h
  refine b_nwa (k := 178) (i := i_213) (by decide) (Or.inr rfl) rfl h1 h2 h3 ei_213 q585 dX1_init_630 ?_
  refine b_topm (fun M_214 eM_214 => ?_)
  replace h := h M_214 eM_214
  refine b_fR (ci := 1) (r := (RX1, TX1, 110)) (f := 78) (by decide) rfl (by decide) q1590 (Or.inl rfl) rfl rfl rfl rfl h.1 dX1_init_632 ?_
  refine b_topm (fun M_215 eM_215 => ?_)
  replace h := h.2 M_215 eM_215
  refine b_aload_n 0 dX1_init_635 rfl rfl ?_
  refine b_sipush (v := 4400) dX1_init_636 (by decide) ?_
  obtain ⟨h1, h2, h3, i_216, ei_216, h⟩ := h
  refine b_nwa (k := 179) (i := i_216) (by decide) (Or.inr rfl) rfl h1 h2 h3 ei_216 q585 dX1_init_639 ?_
  refine b_topm (fun M_217 eM_217 => ?_)
  replace h := h M_217 eM_217
  refine b_fR (ci := 1) (r := (RX1, TX1, 110)) (f := 79) (by decide) rfl (by decide) q1591 (Or.inl rfl) rfl rfl rfl rfl h.1 dX1_init_641 ?_
  refine b_topm (fun M_218 eM_218 => ?_)
  replace h := h.2 M_218 eM_218
  refine b_aload_n 0 dX1_init_644 rfl rfl ?_
  refine b_sipush (v := 4400) dX1_init_645 (by decide) ?_
  obtain ⟨h1, h2, h3, i_219, ei_219, h⟩ := h
  refine b_nwa (k := 180) (i := i_219) (by decide) (Or.inr rfl) rfl h1 h2 h3 ei_219 q585 dX1_init_648 ?_
  refine b_topm (fun M_220 eM_220 => ?_)
  replace h := h M_220 eM_220
  refine b_fR (ci := 1) (r := (RX1, TX1, 110)) (f := 80) (by decide) rfl (by decide) q1592 (Or.inl rfl) rfl rfl rfl rfl h.1 dX1_init_650 ?_
  refine b_topm (fun M_221 eM_221 => ?_)
  replace h := h.2 M_221 eM_221
  refine b_aload_n 0 dX1_init_653 rfl rfl ?_
  refine b_sipush (v := 4400) dX1_init_654 (by decide) ?_
  obtain ⟨h1, h2, h3, i_222, ei_222, h⟩ := h
  refine b_nwa (k := 181) (i := i_222) (by decide) (Or.inl rfl) rfl h1 h2 h3 ei_222 q435 dX1_init_657 ?_
  refine b_topm (fun M_223 eM_223 => ?_)
  replace h := h M_223 eM_223
  refine b_fR (ci := 1) (r := (RX1, TX1, 110)) (f := 81) (by decide) rfl (by decide) q1593 (Or.inl rfl) rfl rfl rfl rfl h.1 dX1_init_659 ?_
  refine b_topm (fun M_224 eM_224 => ?_)
  replace h := h.2 M_224 eM_224
  refine b_aload_n 0 dX1_init_662 rfl rfl ?_
  refine b_iconst (v := 0) dX1_init_663 (by decide) ?_
  refine b_pI (ci := 1) (r := (RX1, TX1, 110)) (f := 82) (by decide) rfl (by decide) (Or.inl q1594) (Or.inl rfl) rfl (Or.inl rfl) h.1 dX1_init_664 ?_
  refine b_topm (fun M_225 eM_225 => ?_)
  replace h := h.2 M_225 eM_225
  refine b_aload_n 0 dX1_init_667 rfl rfl ?_
  refine b_sipush (v := 20000) dX1_init_668 (by decide) ?_
  obtain ⟨h1, h2, h3, i_226, ei_226, h⟩ := h
  refine b_nwa (k := 183) (i := i_226) (by decide) (Or.inl rfl) rfl h1 h2 h3 ei_226 q435 dX1_init_671 ?_
  refine b_topm (fun M_227 eM_227 => ?_)
  replace h := h M_227 eM_227
  refine b_fR (ci := 1) (r := (RX1, TX1, 110)) (f := 83) (by decide) rfl (by decide) q1595 (Or.inl rfl) rfl rfl rfl rfl h.1 dX1_init_673 ?_
  refine b_topm (fun M_228 eM_228 => ?_)
  replace h := h.2 M_228 eM_228
  refine b_aload_n 0 dX1_init_676 rfl rfl ?_
  refine b_sipush (v := 20000) dX1_init_677 (by decide) ?_
  obtain ⟨h1, h2, h3, i_229, ei_229, h⟩ := h
  refine b_nwa (k := 184) (i := i_229) (by decide) (Or.inl rfl) rfl h1 h2 h3 ei_229 q435 dX1_init_680 ?_
  refine b_topm (fun M_230 eM_230 => ?_)
  replace h := h M_230 eM_230
  refine b_fR (ci := 1) (r := (RX1, TX1, 110)) (f := 84) (by decide) rfl (by decide) q1596 (Or.inl rfl) rfl rfl rfl rfl h.1 dX1_init_682 ?_
  refine b_topm (fun M_231 eM_231 => ?_)
  replace h := h.2 M_231 eM_231
  refine b_aload_n 0 dX1_init_685 rfl rfl ?_
  refine b_sipush (v := 20000) dX1_init_686 (by decide) ?_
  obtain ⟨h1, h2, h3, i_232, ei_232, h⟩ := h
  refine b_nwa (k := 185) (i := i_232) (by decide) (Or.inl rfl) rfl h1 h2 h3 ei_232 q435 dX1_init_689 ?_
  refine b_topm (fun M_233 eM_233 => ?_)
  replace h := h M_233 eM_233
  refine b_fR (ci := 1) (r := (RX1, TX1, 110)) (f := 85) (by decide) rfl (by decide) q1597 (Or.inl rfl) rfl rfl rfl rfl h.1 dX1_init_691 ?_
  refine b_topm (fun M_234 eM_234 => ?_)
  replace h := h.2 M_234 eM_234
  refine b_aload_n 0 dX1_init_694 rfl rfl ?_
  refine b_sipush (v := 20000) dX1_init_695 (by decide) ?_
  obtain ⟨h1, h2, h3, i_235, ei_235, h⟩ := h
  refine b_nwa (k := 186) (i := i_235) (by decide) (Or.inl rfl) rfl h1 h2 h3 ei_235 q435 dX1_init_698 ?_
  refine b_topm (fun M_236 eM_236 => ?_)
  replace h := h M_236 eM_236
  refine b_fR (ci := 1) (r := (RX1, TX1, 110)) (f := 86) (by decide) rfl (by decide) q1598 (Or.inl rfl) rfl rfl rfl rfl h.1 dX1_init_700 ?_
  refine b_topm (fun M_237 eM_237 => ?_)
  replace h := h.2 M_237 eM_237
  refine b_aload_n 0 dX1_init_703 rfl rfl ?_
  refine b_sipush (v := 20000) dX1_init_704 (by decide) ?_
  obtain ⟨h1, h2, h3, i_238, ei_238, h⟩ := h
  refine b_nwa (k := 187) (i := i_238) (by decide) (Or.inl rfl) rfl h1 h2 h3 ei_238 q435 dX1_init_707 ?_
  refine b_topm (fun M_239 eM_239 => ?_)
  replace h := h M_239 eM_239
  refine b_fR (ci := 1) (r := (RX1, TX1, 110)) (f := 87) (by decide) rfl (by decide) q1599 (Or.inl rfl) rfl rfl rfl rfl h.1 dX1_init_709 ?_
  refine b_topm (fun M_240 eM_240 => ?_)
  replace h := h.2 M_240 eM_240
  refine b_aload_n 0 dX1_init_712 rfl rfl ?_
  refine b_iconst (v := 0) dX1_init_713 (by decide) ?_
  refine b_pI (ci := 1) (r := (RX1, TX1, 110)) (f := 88) (by decide) rfl (by decide) (Or.inl q1600) (Or.inl rfl) rfl (Or.inl rfl) h.1 dX1_init_714 ?_
  refine b_topm (fun M_241 eM_241 => ?_)
  replace h := h.2 M_241 eM_241
  refine b_aload_n 0 dX1_init_717 rfl rfl ?_
  refine b_iconst (v := 0) dX1_init_718 (by decide) ?_
  refine b_pI (ci := 1) (r := (RX1, TX1, 110)) (f := 89) (by decide) rfl (by decide) (Or.inl q1601) (Or.inl rfl) rfl (Or.inl rfl) h.1 dX1_init_719 ?_
  refine b_topm (fun M_242 eM_242 => ?_)
  replace h := h.2 M_242 eM_242
  refine b_aload_n 0 dX1_init_722 rfl rfl ?_
  refine b_bipush (v := 12) dX1_init_723 (by decide) ?_
  obtain ⟨h1, h2, h3, i_243, ei_243, h⟩ := h
  refine b_nwa (k := 190) (i := i_243) (by decide) (Or.inl rfl) rfl h1 h2 h3 ei_243 q435 dX1_init_725 ?_
  refine b_topm (fun M_244 eM_244 => ?_)
  replace h := h M_244 eM_244
  refine b_fR (ci := 1) (r := (RX1, TX1, 110)) (f := 90) (by decide) rfl (by decide) q1602 (Or.inl rfl) rfl rfl rfl rfl h.1 dX1_init_727 ?_
  refine b_topm (fun M_245 eM_245 => ?_)
  replace h := h.2 M_245 eM_245
  refine b_aload_n 0 dX1_init_730 rfl rfl ?_
  refine b_bipush (v := 12) dX1_init_731 (by decide) ?_
  obtain ⟨h1, h2, h3, i_246, ei_246, h⟩ := h
  refine b_nwa (k := 191) (i := i_246) (by decide) (Or.inl rfl) rfl h1 h2 h3 ei_246 q435 dX1_init_733 ?_
  refine b_topm (fun M_247 eM_247 => ?_)
  replace h := h M_247 eM_247
  refine b_fR (ci := 1) (r := (RX1, TX1, 110)) (f := 91) (by decide) rfl (by decide) q1603 (Or.inl rfl) rfl rfl rfl rfl h.1 dX1_init_735 ?_
  refine b_topm (fun M_248 eM_248 => ?_)
  replace h := h.2 M_248 eM_248
  refine b_aload_n 0 dX1_init_738 rfl rfl ?_
  refine b_bipush (v := 12) dX1_init_739 (by decide) ?_
  obtain ⟨h1, h2, h3, i_249, ei_249, h⟩ := h
  refine b_nwa (k := 192) (i := i_249) (by decide) (Or.inl rfl) rfl h1 h2 h3 ei_249 q435 dX1_init_741 ?_
  refine b_topm (fun M_250 eM_250 => ?_)
  replace h := h M_250 eM_250
  refine b_fR (ci := 1) (r := (RX1, TX1, 110)) (f := 92) (by decide) rfl (by decide) q1604 (Or.inl rfl) rfl rfl rfl rfl h.1 dX1_init_743 ?_
  refine b_topm (fun M_251 eM_251 => ?_)
  replace h := h.2 M_251 eM_251
  refine b_aload_n 0 dX1_init_746 rfl rfl ?_
  refine b_bipush (v := 12) dX1_init_747 (by decide) ?_
  obtain ⟨h1, h2, h3, i_252, ei_252, h⟩ := h
  refine b_nwa (k := 193) (i := i_252) (by decide) (Or.inl rfl) rfl h1 h2 h3 ei_252 q435 dX1_init_749 ?_
  refine b_topm (fun M_253 eM_253 => ?_)
  replace h := h M_253 eM_253
  refine b_fR (ci := 1) (r := (RX1, TX1, 110)) (f := 93) (by decide) rfl (by decide) q1605 (Or.inl rfl) rfl rfl rfl rfl h.1 dX1_init_751 ?_
  refine b_topm (fun M_254 eM_254 => ?_)
  replace h := h.2 M_254 eM_254
  refine b_aload_n 0 dX1_init_754 rfl rfl ?_
  refine b_bipush (v := 12) dX1_init_755 (by decide) ?_
  obtain ⟨h1, h2, h3, i_255, ei_255, h⟩ := h
  refine b_nwa (k := 194) (i := i_255) (by decide) (Or.inl rfl) rfl h1 h2 h3 ei_255 q435 dX1_init_757 ?_
  refine b_topm (fun M_256 eM_256 => ?_)
  replace h := h M_256 eM_256
  refine b_fR (ci := 1) (r := (RX1, TX1, 110)) (f := 94) (by decide) rfl (by decide) q1606 (Or.inl rfl) rfl rfl rfl rfl h.1 dX1_init_759 ?_
  refine b_topm (fun M_257 eM_257 => ?_)
  replace h := h.2 M_257 eM_257
  refine b_aload_n 0 dX1_init_762 rfl rfl ?_
  refine b_bipush (v := 12) dX1_init_763 (by decide) ?_
  obtain ⟨h1, h2, h3, i_258, ei_258, h⟩ := h
  refine b_nwa (k := 195) (i := i_258) (by decide) (Or.inl rfl) rfl h1 h2 h3 ei_258 q435 dX1_init_765 ?_
  refine b_topm (fun M_259 eM_259 => ?_)
  replace h := h M_259 eM_259
  refine b_fR (ci := 1) (r := (RX1, TX1, 110)) (f := 95) (by decide) rfl (by decide) q1607 (Or.inl rfl) rfl rfl rfl rfl h.1 dX1_init_767 ?_
  refine b_topm (fun M_260 eM_260 => ?_)
  replace h := h.2 M_260 eM_260
  refine b_aload_n 0 dX1_init_770 rfl rfl ?_
  refine b_bipush (v := 12) dX1_init_771 (by decide) ?_
  obtain ⟨h1, h2, h3, i_261, ei_261, h⟩ := h
  refine b_nwa (k := 196) (i := i_261) (by decide) (Or.inl rfl) rfl h1 h2 h3 ei_261 q435 dX1_init_773 ?_
  refine b_topm (fun M_262 eM_262 => ?_)
  replace h := h M_262 eM_262
  refine b_fR (ci := 1) (r := (RX1, TX1, 110)) (f := 96) (by decide) rfl (by decide) q1608 (Or.inl rfl) rfl rfl rfl rfl h.1 dX1_init_775 ?_
  refine b_topm (fun M_263 eM_263 => ?_)
  replace h := h.2 M_263 eM_263
  refine b_aload_n 0 dX1_init_778 rfl rfl ?_
  refine b_bipush (v := 12) dX1_init_779 (by decide) ?_
  obtain ⟨h1, h2, h3, i_264, ei_264, h⟩ := h
  refine b_nwa (k := 197) (i := i_264) (by decide) (Or.inl rfl) rfl h1 h2 h3 ei_264 q435 dX1_init_781 ?_
  refine b_topm (fun M_265 eM_265 => ?_)
  replace h := h M_265 eM_265
  refine b_fR (ci := 1) (r := (RX1, TX1, 110)) (f := 97) (by decide) rfl (by decide) q1609 (Or.inl rfl) rfl rfl rfl rfl h.1 dX1_init_783 ?_
  refine b_topm (fun M_266 eM_266 => ?_)
  replace h := h.2 M_266 eM_266
  refine b_aload_n 0 dX1_init_786 rfl rfl ?_
  refine b_bipush (v := 12) dX1_init_787 (by decide) ?_
  obtain ⟨h1, h2, h3, i_267, ei_267, h⟩ := h
  refine b_nwa (k := 198) (i := i_267) (by decide) (Or.inl rfl) rfl h1 h2 h3 ei_267 q435 dX1_init_789 ?_
  refine b_topm (fun M_268 eM_268 => ?_)
  replace h := h M_268 eM_268
  refine b_fR (ci := 1) (r := (RX1, TX1, 110)) (f := 98) (by decide) rfl (by decide) q1610 (Or.inl rfl) rfl rfl rfl rfl h.1 dX1_init_791 ?_
  refine b_topm (fun M_269 eM_269 => ?_)
  replace h := h.2 M_269 eM_269
  refine b_aload_n 0 dX1_init_794 rfl rfl ?_
  refine b_bipush (v := 12) dX1_init_795 (by decide) ?_
  obtain ⟨h1, h2, h3, i_270, ei_270, h⟩ := h
  refine b_nwa (k := 199) (i := i_270) (by decide) (Or.inl rfl) rfl h1 h2 h3 ei_270 q435 dX1_init_797 ?_
  refine b_topm (fun M_271 eM_271 => ?_)
  replace h := h M_271 eM_271
  refine b_fR (ci := 1) (r := (RX1, TX1, 110)) (f := 99) (by decide) rfl (by decide) q1611 (Or.inl rfl) rfl rfl rfl rfl h.1 dX1_init_799 ?_
  refine b_topm (fun M_272 eM_272 => ?_)
  replace h := h.2 M_272 eM_272
  refine b_aload_n 0 dX1_init_802 rfl rfl ?_
  refine b_bipush (v := 12) dX1_init_803 (by decide) ?_
  obtain ⟨h1, h2, h3, i_273, ei_273, h⟩ := h
  refine b_nwa (k := 200) (i := i_273) (by decide) (Or.inl rfl) rfl h1 h2 h3 ei_273 q435 dX1_init_805 ?_
  refine b_topm (fun M_274 eM_274 => ?_)
  replace h := h M_274 eM_274
  refine b_fR (ci := 1) (r := (RX1, TX1, 110)) (f := 100) (by decide) rfl (by decide) q1612 (Or.inl rfl) rfl rfl rfl rfl h.1 dX1_init_807 ?_
  refine b_topm (fun M_275 eM_275 => ?_)
  replace h := h.2 M_275 eM_275
  refine b_aload_n 0 dX1_init_810 rfl rfl ?_
  refine b_bipush (v := 12) dX1_init_811 (by decide) ?_
  obtain ⟨h1, h2, h3, i_276, ei_276, h⟩ := h
  refine b_nwa (k := 201) (i := i_276) (by decide) (Or.inl rfl) rfl h1 h2 h3 ei_276 q435 dX1_init_813 ?_
  refine b_topm (fun M_277 eM_277 => ?_)
  replace h := h M_277 eM_277
  refine b_fR (ci := 1) (r := (RX1, TX1, 110)) (f := 101) (by decide) rfl (by decide) q1613 (Or.inl rfl) rfl rfl rfl rfl h.1 dX1_init_815 ?_
  refine b_topm (fun M_278 eM_278 => ?_)
  replace h := h.2 M_278 eM_278
  refine b_aload_n 0 dX1_init_818 rfl rfl ?_
  refine b_bipush (v := 12) dX1_init_819 (by decide) ?_
  obtain ⟨h1, h2, h3, i_279, ei_279, h⟩ := h
  refine b_nwa (k := 202) (i := i_279) (by decide) (Or.inr rfl) rfl h1 h2 h3 ei_279 q585 dX1_init_821 ?_
  refine b_topm (fun M_280 eM_280 => ?_)
  replace h := h M_280 eM_280
  refine b_fR (ci := 1) (r := (RX1, TX1, 110)) (f := 102) (by decide) rfl (by decide) q1614 (Or.inl rfl) rfl rfl rfl rfl h.1 dX1_init_823 ?_
  refine b_topm (fun M_281 eM_281 => ?_)
  replace h := h.2 M_281 eM_281
  refine b_aload_n 0 dX1_init_826 rfl rfl ?_
  refine b_iconst (v := 0) dX1_init_827 (by decide) ?_
  refine b_pI (ci := 1) (r := (RX1, TX1, 110)) (f := 103) (by decide) rfl (by decide) (Or.inl q1615) (Or.inl rfl) rfl (Or.inl rfl) h.1 dX1_init_828 ?_
  refine b_topm (fun M_282 eM_282 => ?_)
  replace h := h.2 M_282 eM_282
  refine b_aload_n 0 dX1_init_831 rfl rfl ?_
  refine b_bipush (v := 10) dX1_init_832 (by decide) ?_
  obtain ⟨h1, h2, h3, i_283, ei_283, h⟩ := h
  refine b_nwa (k := 204) (i := i_283) (by decide) (Or.inl rfl) rfl h1 h2 h3 ei_283 q435 dX1_init_834 ?_
  refine b_topm (fun M_284 eM_284 => ?_)
  replace h := h M_284 eM_284
  refine b_fR (ci := 1) (r := (RX1, TX1, 110)) (f := 104) (by decide) rfl (by decide) q1616 (Or.inl rfl) rfl rfl rfl rfl h.1 dX1_init_836 ?_
  refine b_topm (fun M_285 eM_285 => ?_)
  replace h := h.2 M_285 eM_285
  refine b_aload_n 0 dX1_init_839 rfl rfl ?_
  refine b_bipush (v := 10) dX1_init_840 (by decide) ?_
  obtain ⟨h1, h2, h3, i_286, ei_286, h⟩ := h
  refine b_nwa (k := 205) (i := i_286) (by decide) (Or.inl rfl) rfl h1 h2 h3 ei_286 q435 dX1_init_842 ?_
  refine b_topm (fun M_287 eM_287 => ?_)
  replace h := h M_287 eM_287
  refine b_fR (ci := 1) (r := (RX1, TX1, 110)) (f := 105) (by decide) rfl (by decide) q1617 (Or.inl rfl) rfl rfl rfl rfl h.1 dX1_init_844 ?_
  refine b_topm (fun M_288 eM_288 => ?_)
  replace h := h.2 M_288 eM_288
  refine b_aload_n 0 dX1_init_847 rfl rfl ?_
  refine b_bipush (v := 10) dX1_init_848 (by decide) ?_
  obtain ⟨h1, h2, h3, i_289, ei_289, h⟩ := h
  refine b_nwa (k := 206) (i := i_289) (by decide) (Or.inl rfl) rfl h1 h2 h3 ei_289 q435 dX1_init_850 ?_
  refine b_topm (fun M_290 eM_290 => ?_)
  replace h := h M_290 eM_290
  refine b_fR (ci := 1) (r := (RX1, TX1, 110)) (f := 106) (by decide) rfl (by decide) q1618 (Or.inl rfl) rfl rfl rfl rfl h.1 dX1_init_852 ?_
  refine b_topm (fun M_291 eM_291 => ?_)
  replace h := h.2 M_291 eM_291
  refine b_aload_n 0 dX1_init_855 rfl rfl ?_
  refine b_bipush (v := 10) dX1_init_856 (by decide) ?_
  obtain ⟨h1, h2, h3, i_292, ei_292, h⟩ := h
  refine b_nwa (k := 207) (i := i_292) (by decide) (Or.inl rfl) rfl h1 h2 h3 ei_292 q435 dX1_init_858 ?_
  refine b_topm (fun M_293 eM_293 => ?_)
  replace h := h M_293 eM_293
  refine b_fR (ci := 1) (r := (RX1, TX1, 110)) (f := 107) (by decide) rfl (by decide) q1619 (Or.inl rfl) rfl rfl rfl rfl h.1 dX1_init_860 ?_
  refine b_topm (fun M_294 eM_294 => ?_)
  replace h := h.2 M_294 eM_294
  refine b_aload_n 0 dX1_init_863 rfl rfl ?_
  refine b_bipush (v := 10) dX1_init_864 (by decide) ?_
  obtain ⟨h1, h2, h3, i_295, ei_295, h⟩ := h
  refine b_nwa (k := 208) (i := i_295) (by decide) (Or.inl rfl) rfl h1 h2 h3 ei_295 q435 dX1_init_866 ?_
  refine b_topm (fun M_296 eM_296 => ?_)
  replace h := h M_296 eM_296
  refine b_fR (ci := 1) (r := (RX1, TX1, 110)) (f := 108) (by decide) rfl (by decide) q1620 (Or.inl rfl) rfl rfl rfl rfl h.1 dX1_init_868 ?_
  refine b_topm (fun M_297 eM_297 => ?_)
  replace h := h.2 M_297 eM_297
  refine b_aload_n 0 dX1_init_871 rfl rfl ?_
  refine b_bipush (v := 10) dX1_init_872 (by decide) ?_
  obtain ⟨h1, h2, h3, i_298, ei_298, h⟩ := h
  refine b_nwa (k := 209) (i := i_298) (by decide) (Or.inr rfl) rfl h1 h2 h3 ei_298 q585 dX1_init_874 ?_
  refine b_topm (fun M_299 eM_299 => ?_)
  replace h := h M_299 eM_299
  refine b_fR (ci := 1) (r := (RX1, TX1, 110)) (f := 109) (by decide) rfl (by decide) q1621 (Or.inl rfl) rfl rfl rfl rfl h.1 dX1_init_876 ?_
  refine b_topm (fun M_300 eM_300 => ?_)
  replace h := h.2 M_300 eM_300
  exact b_vret rfl dX1_init_879 (hP _ h)
