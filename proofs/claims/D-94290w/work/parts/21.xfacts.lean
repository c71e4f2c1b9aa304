/-! pool facts of PailRow (printed) -/
set_option maxRecDepth 100000
def rows0 : List (Nat × Nat × Nat × Nat) := [(0, 1, 2, 740), (5, 3, 8, 10), (6, 4, 8, 4), (7, 5, 8, 5), (8, 6, 8, 10), (17, 70, 0, 12), (20, 71, 0, 6), (21, 72, 0, 12), (23, 73, 0, 7), (24, 74, 0, 7), (27, 75, 0, 12), (28, 76, 0, 12), (30, 77, 0, 12), (31, 78, 0, 6), (32, 79, 0, 6), (37, 90, 6, 21), (40, 91, 6, 4), (41, 112, 0, 3), (42, 113, 0, 3), (46, 119, 0, 60), (47, 120, 0, 60), (48, 121, 0, 60), (49, 122, 0, 60), (51, 125, 7, 2)]
def rows3 : List (Nat × Nat × Nat × Nat) := [(300, 1, 4, 12), (301, 2, 0, 64), (302, 3, 1, 64)]
def rows9 : List (Nat × Nat × Nat × Nat) := [(900, 1, 0, 64), (901, 2, 0, 64), (902, 3, 0, 64), (903, 4, 1, 64)]
def rows7 : List (Nat × Nat × Nat × Nat) := [(700, 1, 0, 12), (706, 2, 0, 12), (707, 3, 0, 12), (708, 4, 0, 12), (709, 5, 0, 12), (710, 6, 0, 12), (711, 7, 0, 12), (712, 8, 9, 12), (713, 21, 0, 30)]
def rows8 : List (Nat × Nat × Nat × Nat) := [(800, 1, 0, 12), (806, 2, 0, 12), (807, 3, 0, 12), (808, 4, 0, 12)]
theorem pd_0 : ∀ j, j < gN 0 → (parseFieldDescriptor (gT 0 j).2.2.1).isSome = true := by decide +kernel
theorem pd_2 : ∀ j, j < gN 2 → (parseFieldDescriptor (gT 2 j).2.2.1).isSome = true := by decide +kernel
theorem pd_3 : ∀ j, j < gN 3 → (parseFieldDescriptor (gT 3 j).2.2.1).isSome = true := by decide +kernel
theorem pd_4 : ∀ j, j < gN 4 → (parseFieldDescriptor (gT 4 j).2.2.1).isSome = true := by decide +kernel
theorem pd_7 : ∀ j, j < gN 7 → (parseFieldDescriptor (gT 7 j).2.2.1).isSome = true := by decide +kernel
theorem pd_8 : ∀ j, j < gN 8 → (parseFieldDescriptor (gT 8 j).2.2.1).isSome = true := by decide +kernel
theorem pd_9 : ∀ j, j < gN 9 → (parseFieldDescriptor (gT 9 j).2.2.1).isSome = true := by decide +kernel
theorem pd_12 : ∀ j, j < gN 12 → (parseFieldDescriptor (gT 12 j).2.2.1).isSome = true := by decide +kernel
theorem gFi_X10_100_7 : GFi RX10 100 7 705 := ⟨5, ⟨RX10, TX10, 19, "PailRow$Row", rfl, by decide, in_X10, Or.inl q511, Or.inr q512⟩, by decide, by decide +kernel⟩
theorem gFi_X10_107_7 : GFi RX10 107 7 703 := ⟨3, ⟨RX10, TX10, 19, "PailRow$Row", rfl, by decide, in_X10, Or.inl q500, Or.inr q501⟩, by decide, by decide +kernel⟩
theorem gFi_X10_113_7 : GFi RX10 113 7 704 := ⟨4, ⟨RX10, TX10, 19, "PailRow$Row", rfl, by decide, in_X10, Or.inl q507, Or.inr q508⟩, by decide, by decide +kernel⟩
theorem gFi_X10_114_3 : GFi RX10 114 3 312 := ⟨12, ⟨RX4, TX4, 15, "PailRow$Yard", rfl, by decide, in_X4, Or.inr ⟨_, q306⟩, Or.inl rfl⟩, by decide, by decide +kernel⟩
theorem gFi_X10_117_3 : GFi RX10 117 3 311 := ⟨11, ⟨RX4, TX4, 15, "PailRow$Yard", rfl, by decide, in_X4, Or.inr ⟨_, q303⟩, Or.inl rfl⟩, by decide, by decide +kernel⟩
theorem gFi_X10_120_12 : GFi RX10 120 12 1203 := ⟨3, ⟨RX15, TX15, 4, "PailRow$Man", rfl, by decide, in_X15, Or.inr ⟨_, q992⟩, Or.inl rfl⟩, by decide, by decide +kernel⟩
theorem gFi_X10_42_3 : GFi RX10 42 3 307 := ⟨7, ⟨RX4, TX4, 15, "PailRow$Yard", rfl, by decide, in_X4, Or.inr ⟨_, q289⟩, Or.inl rfl⟩, by decide, by decide +kernel⟩
theorem gFi_X10_47_7 : GFi RX10 47 7 714 := ⟨14, ⟨RX10, TX10, 19, "PailRow$Row", rfl, by decide, in_X10, Or.inl q478, Or.inl rfl⟩, by decide, by decide +kernel⟩
theorem gFi_X10_50_7 : GFi RX10 50 7 715 := ⟨15, ⟨RX10, TX10, 19, "PailRow$Row", rfl, by decide, in_X10, Or.inl q479, Or.inl rfl⟩, by decide, by decide +kernel⟩
theorem gFi_X10_53_7 : GFi RX10 53 7 716 := ⟨16, ⟨RX10, TX10, 19, "PailRow$Row", rfl, by decide, in_X10, Or.inl q480, Or.inl rfl⟩, by decide, by decide +kernel⟩
theorem gFi_X10_56_7 : GFi RX10 56 7 717 := ⟨17, ⟨RX10, TX10, 19, "PailRow$Row", rfl, by decide, in_X10, Or.inl q481, Or.inl rfl⟩, by decide, by decide +kernel⟩
theorem gFi_X10_59_7 : GFi RX10 59 7 718 := ⟨18, ⟨RX10, TX10, 19, "PailRow$Row", rfl, by decide, in_X10, Or.inl q483, Or.inl rfl⟩, by decide, by decide +kernel⟩
theorem gFi_X10_66_3 : GFi RX10 66 3 306 := ⟨6, ⟨RX4, TX4, 15, "PailRow$Yard", rfl, by decide, in_X4, Or.inr ⟨_, q283⟩, Or.inl rfl⟩, by decide, by decide +kernel⟩
theorem gFi_X10_69_7 : GFi RX10 69 7 702 := ⟨2, ⟨RX10, TX10, 19, "PailRow$Row", rfl, by decide, in_X10, Or.inl q494, Or.inr q495⟩, by decide, by decide +kernel⟩
theorem gFi_X10_80_12 : GFi RX10 80 12 1201 := ⟨1, ⟨RX15, TX15, 4, "PailRow$Man", rfl, by decide, in_X15, Or.inr ⟨_, q986⟩, Or.inl rfl⟩, by decide, by decide +kernel⟩
theorem gFi_X10_85_3 : GFi RX10 85 3 309 := ⟨9, ⟨RX4, TX4, 15, "PailRow$Yard", rfl, by decide, in_X4, Or.inr ⟨_, q296⟩, Or.inl rfl⟩, by decide, by decide +kernel⟩
theorem gFi_X10_88_3 : GFi RX10 88 3 313 := ⟨13, ⟨RX4, TX4, 15, "PailRow$Yard", rfl, by decide, in_X4, Or.inr ⟨_, q308⟩, Or.inl rfl⟩, by decide, by decide +kernel⟩
theorem gFi_X11_21_3 : GFi RX11 21 3 307 := ⟨7, ⟨RX4, TX4, 15, "PailRow$Yard", rfl, by decide, in_X4, Or.inr ⟨_, q288⟩, Or.inl rfl⟩, by decide, by decide +kernel⟩
theorem gFi_X11_37_8 : GFi RX11 37 8 809 := ⟨9, ⟨RX11, TX11, 10, "PailRow$Runners", rfl, by decide, in_X11, Or.inl q561, Or.inl rfl⟩, by decide, by decide +kernel⟩
theorem gFi_X11_41_8 : GFi RX11 41 8 802 := ⟨2, ⟨RX11, TX11, 10, "PailRow$Runners", rfl, by decide, in_X11, Or.inl q492, Or.inr q493⟩, by decide, by decide +kernel⟩
theorem gFi_X11_48_8 : GFi RX11 48 8 803 := ⟨3, ⟨RX11, TX11, 10, "PailRow$Runners", rfl, by decide, in_X11, Or.inl q498, Or.inr q499⟩, by decide, by decide +kernel⟩
theorem gFi_X11_59_3 : GFi RX11 59 3 309 := ⟨9, ⟨RX4, TX4, 15, "PailRow$Yard", rfl, by decide, in_X4, Or.inr ⟨_, q297⟩, Or.inl rfl⟩, by decide, by decide +kernel⟩
theorem gFi_X11_62_3 : GFi RX11 62 3 306 := ⟨6, ⟨RX4, TX4, 15, "PailRow$Yard", rfl, by decide, in_X4, Or.inr ⟨_, q285⟩, Or.inl rfl⟩, by decide, by decide +kernel⟩
theorem gFi_X11_69_12 : GFi RX11 69 12 1202 := ⟨2, ⟨RX15, TX15, 4, "PailRow$Man", rfl, by decide, in_X15, Or.inr ⟨_, q989⟩, Or.inl rfl⟩, by decide, by decide +kernel⟩
theorem gFi_X11_77_8 : GFi RX11 77 8 804 := ⟨4, ⟨RX11, TX11, 10, "PailRow$Runners", rfl, by decide, in_X11, Or.inl q505, Or.inr q506⟩, by decide, by decide +kernel⟩
theorem gFi_X12_29_9 : GFi RX12 29 9 905 := ⟨5, ⟨RX12, TX12, 6, "PailRow$Barn", rfl, by decide, in_X12, Or.inl q592, Or.inl rfl⟩, by decide, by decide +kernel⟩
theorem gFi_X12_47_3 : GFi RX12 47 3 314 := ⟨14, ⟨RX4, TX4, 15, "PailRow$Yard", rfl, by decide, in_X4, Or.inr ⟨_, q312⟩, Or.inl rfl⟩, by decide, by decide +kernel⟩
theorem gFi_X12_50_3 : GFi RX12 50 3 305 := ⟨5, ⟨RX4, TX4, 15, "PailRow$Yard", rfl, by decide, in_X4, Or.inr ⟨_, q280⟩, Or.inl rfl⟩, by decide, by decide +kernel⟩
theorem gFi_X12_53_3 : GFi RX12 53 3 304 := ⟨4, ⟨RX4, TX4, 15, "PailRow$Yard", rfl, by decide, in_X4, Or.inr ⟨_, q276⟩, Or.inl rfl⟩, by decide, by decide +kernel⟩
theorem gFi_X1_214_0 : GFi RX1 214 0 1 := ⟨1, ⟨RX1, TX1, 52, "PailRow", rfl, by decide, in_X1, Or.inl q643, Or.inl rfl⟩, by decide, by decide +kernel⟩
theorem gFi_X1_222_0 : GFi RX1 222 0 2 := ⟨2, ⟨RX1, TX1, 52, "PailRow", rfl, by decide, in_X1, Or.inl q645, Or.inl rfl⟩, by decide, by decide +kernel⟩
theorem gFi_X1_231_0 : GFi RX1 231 0 12 := ⟨12, ⟨RX1, TX1, 52, "PailRow", rfl, by decide, in_X1, Or.inl q663, Or.inl rfl⟩, by decide, by decide +kernel⟩
theorem gFi_X1_265_4 : GFi RX1 265 4 401 := ⟨1, ⟨RX5, TX5, 2, "PailRow$Plan", rfl, by decide, in_X5, Or.inr ⟨_, q358⟩, Or.inl rfl⟩, by decide, by decide +kernel⟩
theorem gFi_X1_268_3 : GFi RX1 268 3 303 := ⟨3, ⟨RX4, TX4, 15, "PailRow$Yard", rfl, by decide, in_X4, Or.inr ⟨_, q272⟩, Or.inl rfl⟩, by decide, by decide +kernel⟩
theorem gFi_X1_295_12 : GFi RX1 295 12 1203 := ⟨3, ⟨RX15, TX15, 4, "PailRow$Man", rfl, by decide, in_X15, Or.inr ⟨_, q993⟩, Or.inl rfl⟩, by decide, by decide +kernel⟩
theorem gFi_X1_308_0 : GFi RX1 308 0 18 := ⟨18, ⟨RX1, TX1, 52, "PailRow", rfl, by decide, in_X1, Or.inl q669, Or.inl rfl⟩, by decide, by decide +kernel⟩
theorem gFi_X1_321_3 : GFi RX1 321 3 310 := ⟨10, ⟨RX4, TX4, 15, "PailRow$Yard", rfl, by decide, in_X4, Or.inr ⟨_, q301⟩, Or.inl rfl⟩, by decide, by decide +kernel⟩
theorem gFi_X1_333_7 : GFi RX1 333 7 704 := ⟨4, ⟨RX10, TX10, 19, "PailRow$Row", rfl, by decide, in_X10, Or.inl q509, Or.inr q508⟩, by decide, by decide +kernel⟩
theorem gFi_X1_335_0 : GFi RX1 335 0 19 := ⟨19, ⟨RX1, TX1, 52, "PailRow", rfl, by decide, in_X1, Or.inl q670, Or.inl rfl⟩, by decide, by decide +kernel⟩
theorem gFi_X1_346_7 : GFi RX1 346 7 717 := ⟨17, ⟨RX10, TX10, 19, "PailRow$Row", rfl, by decide, in_X10, Or.inr ⟨_, q482⟩, Or.inl rfl⟩, by decide, by decide +kernel⟩
theorem gFi_X1_349_7 : GFi RX1 349 7 718 := ⟨18, ⟨RX10, TX10, 19, "PailRow$Row", rfl, by decide, in_X10, Or.inr ⟨_, q484⟩, Or.inl rfl⟩, by decide, by decide +kernel⟩
theorem gFi_X1_355_7 : GFi RX1 355 7 702 := ⟨2, ⟨RX10, TX10, 19, "PailRow$Row", rfl, by decide, in_X10, Or.inl q496, Or.inr q495⟩, by decide, by decide +kernel⟩
theorem gFi_X1_356_0 : GFi RX1 356 0 22 := ⟨22, ⟨RX1, TX1, 52, "PailRow", rfl, by decide, in_X1, Or.inl q673, Or.inl rfl⟩, by decide, by decide +kernel⟩
theorem gFi_X1_369_0 : GFi RX1 369 0 26 := ⟨26, ⟨RX1, TX1, 52, "PailRow", rfl, by decide, in_X1, Or.inl q677, Or.inl rfl⟩, by decide, by decide +kernel⟩
theorem gFi_X1_376_0 : GFi RX1 376 0 25 := ⟨25, ⟨RX1, TX1, 52, "PailRow", rfl, by decide, in_X1, Or.inl q676, Or.inl rfl⟩, by decide, by decide +kernel⟩
theorem gFi_X1_403_0 : GFi RX1 403 0 29 := ⟨29, ⟨RX1, TX1, 52, "PailRow", rfl, by decide, in_X1, Or.inl q680, Or.inl rfl⟩, by decide, by decide +kernel⟩
theorem gFi_X1_414_0 : GFi RX1 414 0 34 := ⟨34, ⟨RX1, TX1, 52, "PailRow", rfl, by decide, in_X1, Or.inl q685, Or.inl rfl⟩, by decide, by decide +kernel⟩
theorem gFi_X1_421_0 : GFi RX1 421 0 33 := ⟨33, ⟨RX1, TX1, 52, "PailRow", rfl, by decide, in_X1, Or.inl q684, Or.inl rfl⟩, by decide, by decide +kernel⟩
theorem gFi_X1_442_0 : GFi RX1 442 0 38 := ⟨38, ⟨RX1, TX1, 52, "PailRow", rfl, by decide, in_X1, Or.inl q689, Or.inl rfl⟩, by decide, by decide +kernel⟩
theorem gFi_X1_447_0 : GFi RX1 447 0 39 := ⟨39, ⟨RX1, TX1, 52, "PailRow", rfl, by decide, in_X1, Or.inl q690, Or.inl rfl⟩, by decide, by decide +kernel⟩
theorem gFi_X1_459_9 : GFi RX1 459 9 905 := ⟨5, ⟨RX12, TX12, 6, "PailRow$Barn", rfl, by decide, in_X12, Or.inr ⟨_, q593⟩, Or.inl rfl⟩, by decide, by decide +kernel⟩
theorem gFi_X1_467_3 : GFi RX1 467 3 305 := ⟨5, ⟨RX4, TX4, 15, "PailRow$Yard", rfl, by decide, in_X4, Or.inr ⟨_, q281⟩, Or.inl rfl⟩, by decide, by decide +kernel⟩
theorem gFi_X1_469_0 : GFi RX1 469 0 44 := ⟨44, ⟨RX1, TX1, 52, "PailRow", rfl, by decide, in_X1, Or.inl q695, Or.inl rfl⟩, by decide, by decide +kernel⟩
theorem gFi_X1_475_0 : GFi RX1 475 0 43 := ⟨43, ⟨RX1, TX1, 52, "PailRow", rfl, by decide, in_X1, Or.inl q694, Or.inl rfl⟩, by decide, by decide +kernel⟩
theorem gFi_X1_487_3 : GFi RX1 487 3 304 := ⟨4, ⟨RX4, TX4, 15, "PailRow$Yard", rfl, by decide, in_X4, Or.inr ⟨_, q277⟩, Or.inl rfl⟩, by decide, by decide +kernel⟩
theorem gFi_X1_529_3 : GFi RX1 529 3 307 := ⟨7, ⟨RX4, TX4, 15, "PailRow$Yard", rfl, by decide, in_X4, Or.inr ⟨_, q291⟩, Or.inl rfl⟩, by decide, by decide +kernel⟩
theorem gFi_X1_531_3 : GFi RX1 531 3 306 := ⟨6, ⟨RX4, TX4, 15, "PailRow$Yard", rfl, by decide, in_X4, Or.inr ⟨_, q286⟩, Or.inl rfl⟩, by decide, by decide +kernel⟩
theorem gFi_X4_50_3 : GFi RX4 50 3 304 := ⟨4, ⟨RX4, TX4, 15, "PailRow$Yard", rfl, by decide, in_X4, Or.inl q273, Or.inl rfl⟩, by decide, by decide +kernel⟩
theorem gFi_X4_57_3 : GFi RX4 57 3 305 := ⟨5, ⟨RX4, TX4, 15, "PailRow$Yard", rfl, by decide, in_X4, Or.inl q278, Or.inl rfl⟩, by decide, by decide +kernel⟩
theorem gFi_X9_29_7 : GFi RX9 29 7 703 := ⟨3, ⟨RX10, TX10, 19, "PailRow$Team", rfl, by decide, in_X10, Or.inl q497, Or.inl rfl⟩, by decide, by decide +kernel⟩
theorem gFi_X9_29_8 : GFi RX9 29 8 803 := ⟨3, ⟨RX11, TX11, 10, "PailRow$Team", rfl, by decide, in_X11, Or.inl q497, Or.inl rfl⟩, by decide, by decide +kernel⟩
theorem gFi_X9_32_7 : GFi RX9 32 7 704 := ⟨4, ⟨RX10, TX10, 19, "PailRow$Team", rfl, by decide, in_X10, Or.inl q504, Or.inl rfl⟩, by decide, by decide +kernel⟩
theorem gFi_X9_32_8 : GFi RX9 32 8 804 := ⟨4, ⟨RX11, TX11, 10, "PailRow$Team", rfl, by decide, in_X11, Or.inl q504, Or.inl rfl⟩, by decide, by decide +kernel⟩
theorem gFi_X9_35_7 : GFi RX9 35 7 705 := ⟨5, ⟨RX10, TX10, 19, "PailRow$Team", rfl, by decide, in_X10, Or.inl q510, Or.inl rfl⟩, by decide, by decide +kernel⟩
theorem gFi_X9_35_8 : GFi RX9 35 8 805 := ⟨5, ⟨RX11, TX11, 10, "PailRow$Team", rfl, by decide, in_X11, Or.inl q510, Or.inl rfl⟩, by decide, by decide +kernel⟩
theorem gFi_X9_46_3 : GFi RX9 46 3 308 := ⟨8, ⟨RX4, TX4, 15, "PailRow$Yard", rfl, by decide, in_X4, Or.inr ⟨_, q294⟩, Or.inl rfl⟩, by decide, by decide +kernel⟩
theorem gFx_X10_15_7 : GFx RX10 15 7 707 := ⟨7, ⟨RX10, TX10, 19, "PailRow$Row", rfl, by decide, in_X10, Or.inl q470, Or.inl rfl⟩, by decide, by decide +kernel⟩
theorem gFx_X10_18_7 : GFx RX10 18 7 708 := ⟨8, ⟨RX10, TX10, 19, "PailRow$Row", rfl, by decide, in_X10, Or.inl q471, Or.inl rfl⟩, by decide, by decide +kernel⟩
theorem gFx_X10_21_7 : GFx RX10 21 7 709 := ⟨9, ⟨RX10, TX10, 19, "PailRow$Row", rfl, by decide, in_X10, Or.inl q472, Or.inl rfl⟩, by decide, by decide +kernel⟩
theorem gFx_X10_24_7 : GFx RX10 24 7 710 := ⟨10, ⟨RX10, TX10, 19, "PailRow$Row", rfl, by decide, in_X10, Or.inl q473, Or.inl rfl⟩, by decide, by decide +kernel⟩
theorem gFx_X10_27_7 : GFx RX10 27 7 711 := ⟨11, ⟨RX10, TX10, 19, "PailRow$Row", rfl, by decide, in_X10, Or.inl q474, Or.inl rfl⟩, by decide, by decide +kernel⟩
theorem gFx_X10_32_7 : GFx RX10 32 7 712 := ⟨12, ⟨RX10, TX10, 19, "PailRow$Row", rfl, by decide, in_X10, Or.inl q476, Or.inl rfl⟩, by decide, by decide +kernel⟩
theorem gFx_X10_35_7 : GFx RX10 35 7 713 := ⟨13, ⟨RX10, TX10, 19, "PailRow$Row", rfl, by decide, in_X10, Or.inl q477, Or.inl rfl⟩, by decide, by decide +kernel⟩
theorem gFx_X10_62_7 : GFx RX10 62 7 701 := ⟨1, ⟨RX10, TX10, 19, "PailRow$Row", rfl, by decide, in_X10, Or.inl q487, Or.inr q488⟩, by decide, by decide +kernel⟩
theorem gFx_X10_9_7 : GFx RX10 9 7 706 := ⟨6, ⟨RX10, TX10, 19, "PailRow$Row", rfl, by decide, in_X10, Or.inl q468, Or.inl rfl⟩, by decide, by decide +kernel⟩
theorem gFx_X11_15_8 : GFx RX11 15 8 807 := ⟨7, ⟨RX11, TX11, 10, "PailRow$Runners", rfl, by decide, in_X11, Or.inl q559, Or.inl rfl⟩, by decide, by decide +kernel⟩
theorem gFx_X11_18_8 : GFx RX11 18 8 808 := ⟨8, ⟨RX11, TX11, 10, "PailRow$Runners", rfl, by decide, in_X11, Or.inl q560, Or.inl rfl⟩, by decide, by decide +kernel⟩
theorem gFx_X11_55_8 : GFx RX11 55 8 801 := ⟨1, ⟨RX11, TX11, 10, "PailRow$Runners", rfl, by decide, in_X11, Or.inl q489, Or.inr q490⟩, by decide, by decide +kernel⟩
theorem gFx_X11_9_8 : GFx RX11 9 8 806 := ⟨6, ⟨RX11, TX11, 10, "PailRow$Runners", rfl, by decide, in_X11, Or.inl q558, Or.inl rfl⟩, by decide, by decide +kernel⟩
theorem gFx_X12_15_9 : GFx RX12 15 9 901 := ⟨1, ⟨RX12, TX12, 6, "PailRow$Barn", rfl, by decide, in_X12, Or.inl q585, Or.inl rfl⟩, by decide, by decide +kernel⟩
theorem gFx_X12_18_9 : GFx RX12 18 9 902 := ⟨2, ⟨RX12, TX12, 6, "PailRow$Barn", rfl, by decide, in_X12, Or.inl q587, Or.inl rfl⟩, by decide, by decide +kernel⟩
theorem gFx_X12_21_9 : GFx RX12 21 9 903 := ⟨3, ⟨RX12, TX12, 6, "PailRow$Barn", rfl, by decide, in_X12, Or.inl q588, Or.inl rfl⟩, by decide, by decide +kernel⟩
theorem gFx_X12_25_9 : GFx RX12 25 9 904 := ⟨4, ⟨RX12, TX12, 6, "PailRow$Barn", rfl, by decide, in_X12, Or.inl q590, Or.inl rfl⟩, by decide, by decide +kernel⟩
theorem gFx_X12_33_3 : GFx RX12 33 3 301 := ⟨1, ⟨RX4, TX4, 15, "PailRow$Yard", rfl, by decide, in_X4, Or.inr ⟨_, q263⟩, Or.inl rfl⟩, by decide, by decide +kernel⟩
theorem gFx_X12_36_3 : GFx RX12 36 3 302 := ⟨2, ⟨RX4, TX4, 15, "PailRow$Yard", rfl, by decide, in_X4, Or.inr ⟨_, q267⟩, Or.inl rfl⟩, by decide, by decide +kernel⟩
theorem gFx_X12_9_9 : GFx RX12 9 9 900 := ⟨0, ⟨RX12, TX12, 6, "PailRow$Barn", rfl, by decide, in_X12, Or.inl q583, Or.inl rfl⟩, by decide, by decide +kernel⟩
theorem gFx_X1_119_0 : GFx RX1 119 0 13 := ⟨13, ⟨RX1, TX1, 52, "PailRow", rfl, by decide, in_X1, Or.inl q664, Or.inl rfl⟩, by decide, by decide +kernel⟩
theorem gFx_X1_128_0 : GFx RX1 128 0 15 := ⟨15, ⟨RX1, TX1, 52, "PailRow", rfl, by decide, in_X1, Or.inl q666, Or.inl rfl⟩, by decide, by decide +kernel⟩
theorem gFx_X1_135_0 : GFx RX1 135 0 17 := ⟨17, ⟨RX1, TX1, 52, "PailRow", rfl, by decide, in_X1, Or.inl q668, Or.inl rfl⟩, by decide, by decide +kernel⟩
theorem gFx_X1_139_0 : GFx RX1 139 0 20 := ⟨20, ⟨RX1, TX1, 52, "PailRow", rfl, by decide, in_X1, Or.inl q671, Or.inl rfl⟩, by decide, by decide +kernel⟩
theorem gFx_X1_142_0 : GFx RX1 142 0 21 := ⟨21, ⟨RX1, TX1, 52, "PailRow", rfl, by decide, in_X1, Or.inl q672, Or.inl rfl⟩, by decide, by decide +kernel⟩
theorem gFx_X1_145_0 : GFx RX1 145 0 23 := ⟨23, ⟨RX1, TX1, 52, "PailRow", rfl, by decide, in_X1, Or.inl q674, Or.inl rfl⟩, by decide, by decide +kernel⟩
theorem gFx_X1_148_0 : GFx RX1 148 0 24 := ⟨24, ⟨RX1, TX1, 52, "PailRow", rfl, by decide, in_X1, Or.inl q675, Or.inl rfl⟩, by decide, by decide +kernel⟩
theorem gFx_X1_151_0 : GFx RX1 151 0 27 := ⟨27, ⟨RX1, TX1, 52, "PailRow", rfl, by decide, in_X1, Or.inl q678, Or.inl rfl⟩, by decide, by decide +kernel⟩
theorem gFx_X1_154_0 : GFx RX1 154 0 28 := ⟨28, ⟨RX1, TX1, 52, "PailRow", rfl, by decide, in_X1, Or.inl q679, Or.inl rfl⟩, by decide, by decide +kernel⟩
theorem gFx_X1_157_0 : GFx RX1 157 0 30 := ⟨30, ⟨RX1, TX1, 52, "PailRow", rfl, by decide, in_X1, Or.inl q681, Or.inl rfl⟩, by decide, by decide +kernel⟩
theorem gFx_X1_160_0 : GFx RX1 160 0 31 := ⟨31, ⟨RX1, TX1, 52, "PailRow", rfl, by decide, in_X1, Or.inl q682, Or.inl rfl⟩, by decide, by decide +kernel⟩
theorem gFx_X1_163_0 : GFx RX1 163 0 32 := ⟨32, ⟨RX1, TX1, 52, "PailRow", rfl, by decide, in_X1, Or.inl q683, Or.inl rfl⟩, by decide, by decide +kernel⟩
theorem gFx_X1_169_0 : GFx RX1 169 0 35 := ⟨35, ⟨RX1, TX1, 52, "PailRow", rfl, by decide, in_X1, Or.inl q686, Or.inl rfl⟩, by decide, by decide +kernel⟩
theorem gFx_X1_173_0 : GFx RX1 173 0 36 := ⟨36, ⟨RX1, TX1, 52, "PailRow", rfl, by decide, in_X1, Or.inl q687, Or.inl rfl⟩, by decide, by decide +kernel⟩
theorem gFx_X1_180_0 : GFx RX1 180 0 40 := ⟨40, ⟨RX1, TX1, 52, "PailRow", rfl, by decide, in_X1, Or.inl q691, Or.inl rfl⟩, by decide, by decide +kernel⟩
theorem gFx_X1_183_0 : GFx RX1 183 0 41 := ⟨41, ⟨RX1, TX1, 52, "PailRow", rfl, by decide, in_X1, Or.inl q692, Or.inl rfl⟩, by decide, by decide +kernel⟩
theorem gFx_X1_186_0 : GFx RX1 186 0 42 := ⟨42, ⟨RX1, TX1, 52, "PailRow", rfl, by decide, in_X1, Or.inl q693, Or.inl rfl⟩, by decide, by decide +kernel⟩
theorem gFx_X1_241_2 : GFx RX1 241 2 200 := ⟨0, ⟨RX3, TX3, 3, "PailRow$State", rfl, by decide, in_X3, Or.inr ⟨_, q366⟩, Or.inl rfl⟩, by decide, by decide +kernel⟩
theorem gFx_X1_248_2 : GFx RX1 248 2 201 := ⟨1, ⟨RX3, TX3, 3, "PailRow$State", rfl, by decide, in_X3, Or.inr ⟨_, q368⟩, Or.inl rfl⟩, by decide, by decide +kernel⟩
theorem gFx_X1_283_3 : GFx RX1 283 3 300 := ⟨0, ⟨RX4, TX4, 15, "PailRow$Yard", rfl, by decide, in_X4, Or.inr ⟨_, q261⟩, Or.inl rfl⟩, by decide, by decide +kernel⟩
theorem gFx_X1_343_7 : GFx RX1 343 7 711 := ⟨11, ⟨RX10, TX10, 19, "PailRow$Row", rfl, by decide, in_X10, Or.inr ⟨_, q475⟩, Or.inl rfl⟩, by decide, by decide +kernel⟩
theorem gFx_X1_352_7 : GFx RX1 352 7 706 := ⟨6, ⟨RX10, TX10, 19, "PailRow$Row", rfl, by decide, in_X10, Or.inr ⟨_, q469⟩, Or.inl rfl⟩, by decide, by decide +kernel⟩
theorem gFx_X1_461_9 : GFx RX1 461 9 904 := ⟨4, ⟨RX12, TX12, 6, "PailRow$Barn", rfl, by decide, in_X12, Or.inr ⟨_, q591⟩, Or.inl rfl⟩, by decide, by decide +kernel⟩
theorem gFx_X1_462_9 : GFx RX1 462 9 900 := ⟨0, ⟨RX12, TX12, 6, "PailRow$Barn", rfl, by decide, in_X12, Or.inr ⟨_, q584⟩, Or.inl rfl⟩, by decide, by decide +kernel⟩
theorem gFx_X1_463_9 : GFx RX1 463 9 903 := ⟨3, ⟨RX12, TX12, 6, "PailRow$Barn", rfl, by decide, in_X12, Or.inr ⟨_, q589⟩, Or.inl rfl⟩, by decide, by decide +kernel⟩
theorem gFx_X1_464_9 : GFx RX1 464 9 901 := ⟨1, ⟨RX12, TX12, 6, "PailRow$Barn", rfl, by decide, in_X12, Or.inr ⟨_, q586⟩, Or.inl rfl⟩, by decide, by decide +kernel⟩
theorem gFx_X1_96_0 : GFx RX1 96 0 9 := ⟨9, ⟨RX1, TX1, 52, "PailRow", rfl, by decide, in_X1, Or.inl q659, Or.inl rfl⟩, by decide, by decide +kernel⟩
theorem gFx_X1_9_0 : GFx RX1 9 0 0 := ⟨0, ⟨RX1, TX1, 52, "PailRow", rfl, by decide, in_X1, Or.inl q640, Or.inl rfl⟩, by decide, by decide +kernel⟩
theorem gFx_X9_15_7 : GFx RX9 15 7 701 := ⟨1, ⟨RX10, TX10, 19, "PailRow$Team", rfl, by decide, in_X10, Or.inl q486, Or.inl rfl⟩, by decide, by decide +kernel⟩
theorem gFx_X9_15_8 : GFx RX9 15 8 801 := ⟨1, ⟨RX11, TX11, 10, "PailRow$Team", rfl, by decide, in_X11, Or.inl q486, Or.inl rfl⟩, by decide, by decide +kernel⟩
theorem gFx_X9_38_3 : GFx RX9 38 3 300 := ⟨0, ⟨RX4, TX4, 15, "PailRow$Yard", rfl, by decide, in_X4, Or.inr ⟨_, q258⟩, Or.inl rfl⟩, by decide, by decide +kernel⟩
theorem gFx_X9_9_7 : GFx RX9 9 7 700 := ⟨0, ⟨RX10, TX10, 19, "PailRow$Team", rfl, by decide, in_X10, Or.inl q485, Or.inl rfl⟩, by decide, by decide +kernel⟩
theorem gFx_X9_9_8 : GFx RX9 9 8 800 := ⟨0, ⟨RX11, TX11, 10, "PailRow$Team", rfl, by decide, in_X11, Or.inl q485, Or.inl rfl⟩, by decide, by decide +kernel⟩
theorem gPi_X10_113_7 : GPi RX10 113 7 704 := ⟨4, ⟨⟨RX10, TX10, 19, "PailRow$Row", rfl, by decide, in_X10, Or.inl q507, Or.inr q508⟩, by decide +kernel, by decide +kernel, pd_7⟩, by decide, by decide +kernel, by decide, by decide +kernel⟩
theorem gPi_X10_47_7 : GPi RX10 47 7 714 := ⟨14, ⟨⟨RX10, TX10, 19, "PailRow$Row", rfl, by decide, in_X10, Or.inl q478, Or.inl rfl⟩, by decide +kernel, by decide +kernel, pd_7⟩, by decide, by decide +kernel, by decide, by decide +kernel⟩
theorem gPi_X10_50_7 : GPi RX10 50 7 715 := ⟨15, ⟨⟨RX10, TX10, 19, "PailRow$Row", rfl, by decide, in_X10, Or.inl q479, Or.inl rfl⟩, by decide +kernel, by decide +kernel, pd_7⟩, by decide, by decide +kernel, by decide, by decide +kernel⟩
theorem gPi_X10_53_7 : GPi RX10 53 7 716 := ⟨16, ⟨⟨RX10, TX10, 19, "PailRow$Row", rfl, by decide, in_X10, Or.inl q480, Or.inl rfl⟩, by decide +kernel, by decide +kernel, pd_7⟩, by decide, by decide +kernel, by decide, by decide +kernel⟩
theorem gPi_X10_56_7 : GPi RX10 56 7 717 := ⟨17, ⟨⟨RX10, TX10, 19, "PailRow$Row", rfl, by decide, in_X10, Or.inl q481, Or.inl rfl⟩, by decide +kernel, by decide +kernel, pd_7⟩, by decide, by decide +kernel, by decide, by decide +kernel⟩
theorem gPi_X10_59_7 : GPi RX10 59 7 718 := ⟨18, ⟨⟨RX10, TX10, 19, "PailRow$Row", rfl, by decide, in_X10, Or.inl q483, Or.inl rfl⟩, by decide +kernel, by decide +kernel, pd_7⟩, by decide, by decide +kernel, by decide, by decide +kernel⟩
theorem gPi_X11_77_8 : GPi RX11 77 8 804 := ⟨4, ⟨⟨RX11, TX11, 10, "PailRow$Runners", rfl, by decide, in_X11, Or.inl q505, Or.inr q506⟩, by decide +kernel, by decide +kernel, pd_8⟩, by decide, by decide +kernel, by decide, by decide +kernel⟩
theorem gPi_X12_29_9 : GPi RX12 29 9 905 := ⟨5, ⟨⟨RX12, TX12, 6, "PailRow$Barn", rfl, by decide, in_X12, Or.inl q592, Or.inl rfl⟩, by decide +kernel, by decide +kernel, pd_9⟩, by decide, by decide +kernel, by decide, by decide +kernel⟩
theorem gPi_X1_214_0 : GPi RX1 214 0 1 := ⟨1, ⟨⟨RX1, TX1, 52, "PailRow", rfl, by decide, in_X1, Or.inl q643, Or.inl rfl⟩, by decide +kernel, by decide +kernel, pd_0⟩, by decide, by decide +kernel, by decide, by decide +kernel⟩
theorem gPi_X1_222_0 : GPi RX1 222 0 2 := ⟨2, ⟨⟨RX1, TX1, 52, "PailRow", rfl, by decide, in_X1, Or.inl q645, Or.inl rfl⟩, by decide +kernel, by decide +kernel, pd_0⟩, by decide, by decide +kernel, by decide, by decide +kernel⟩
theorem gPi_X1_308_0 : GPi RX1 308 0 18 := ⟨18, ⟨⟨RX1, TX1, 52, "PailRow", rfl, by decide, in_X1, Or.inl q669, Or.inl rfl⟩, by decide +kernel, by decide +kernel, pd_0⟩, by decide, by decide +kernel, by decide, by decide +kernel⟩
theorem gPi_X1_356_0 : GPi RX1 356 0 22 := ⟨22, ⟨⟨RX1, TX1, 52, "PailRow", rfl, by decide, in_X1, Or.inl q673, Or.inl rfl⟩, by decide +kernel, by decide +kernel, pd_0⟩, by decide, by decide +kernel, by decide, by decide +kernel⟩
theorem gPi_X1_369_0 : GPi RX1 369 0 26 := ⟨26, ⟨⟨RX1, TX1, 52, "PailRow", rfl, by decide, in_X1, Or.inl q677, Or.inl rfl⟩, by decide +kernel, by decide +kernel, pd_0⟩, by decide, by decide +kernel, by decide, by decide +kernel⟩
theorem gPi_X1_376_0 : GPi RX1 376 0 25 := ⟨25, ⟨⟨RX1, TX1, 52, "PailRow", rfl, by decide, in_X1, Or.inl q676, Or.inl rfl⟩, by decide +kernel, by decide +kernel, pd_0⟩, by decide, by decide +kernel, by decide, by decide +kernel⟩
theorem gPi_X1_403_0 : GPi RX1 403 0 29 := ⟨29, ⟨⟨RX1, TX1, 52, "PailRow", rfl, by decide, in_X1, Or.inl q680, Or.inl rfl⟩, by decide +kernel, by decide +kernel, pd_0⟩, by decide, by decide +kernel, by decide, by decide +kernel⟩
theorem gPi_X1_414_0 : GPi RX1 414 0 34 := ⟨34, ⟨⟨RX1, TX1, 52, "PailRow", rfl, by decide, in_X1, Or.inl q685, Or.inl rfl⟩, by decide +kernel, by decide +kernel, pd_0⟩, by decide, by decide +kernel, by decide, by decide +kernel⟩
theorem gPi_X1_421_0 : GPi RX1 421 0 33 := ⟨33, ⟨⟨RX1, TX1, 52, "PailRow", rfl, by decide, in_X1, Or.inl q684, Or.inl rfl⟩, by decide +kernel, by decide +kernel, pd_0⟩, by decide, by decide +kernel, by decide, by decide +kernel⟩
theorem gPi_X1_469_0 : GPi RX1 469 0 44 := ⟨44, ⟨⟨RX1, TX1, 52, "PailRow", rfl, by decide, in_X1, Or.inl q695, Or.inl rfl⟩, by decide +kernel, by decide +kernel, pd_0⟩, by decide, by decide +kernel, by decide, by decide +kernel⟩
theorem gPi_X1_475_0 : GPi RX1 475 0 43 := ⟨43, ⟨⟨RX1, TX1, 52, "PailRow", rfl, by decide, in_X1, Or.inl q694, Or.inl rfl⟩, by decide +kernel, by decide +kernel, pd_0⟩, by decide, by decide +kernel, by decide, by decide +kernel⟩
theorem gPi_X9_19_7 : GPi RX9 19 7 702 := ⟨2, ⟨⟨RX10, TX10, 19, "PailRow$Team", rfl, by decide, in_X10, Or.inl q491, Or.inl rfl⟩, by decide +kernel, by decide +kernel, pd_7⟩, by decide, by decide +kernel, by decide, by decide +kernel⟩
theorem gPi_X9_19_8 : GPi RX9 19 8 802 := ⟨2, ⟨⟨RX11, TX11, 10, "PailRow$Team", rfl, by decide, in_X11, Or.inl q491, Or.inl rfl⟩, by decide +kernel, by decide +kernel, pd_8⟩, by decide, by decide +kernel, by decide, by decide +kernel⟩
theorem gPi_X9_29_7 : GPi RX9 29 7 703 := ⟨3, ⟨⟨RX10, TX10, 19, "PailRow$Team", rfl, by decide, in_X10, Or.inl q497, Or.inl rfl⟩, by decide +kernel, by decide +kernel, pd_7⟩, by decide, by decide +kernel, by decide, by decide +kernel⟩
theorem gPi_X9_29_8 : GPi RX9 29 8 803 := ⟨3, ⟨⟨RX11, TX11, 10, "PailRow$Team", rfl, by decide, in_X11, Or.inl q497, Or.inl rfl⟩, by decide +kernel, by decide +kernel, pd_8⟩, by decide, by decide +kernel, by decide, by decide +kernel⟩
theorem gPi_X9_32_7 : GPi RX9 32 7 704 := ⟨4, ⟨⟨RX10, TX10, 19, "PailRow$Team", rfl, by decide, in_X10, Or.inl q504, Or.inl rfl⟩, by decide +kernel, by decide +kernel, pd_7⟩, by decide, by decide +kernel, by decide, by decide +kernel⟩
theorem gPi_X9_32_8 : GPi RX9 32 8 804 := ⟨4, ⟨⟨RX11, TX11, 10, "PailRow$Team", rfl, by decide, in_X11, Or.inl q504, Or.inl rfl⟩, by decide +kernel, by decide +kernel, pd_8⟩, by decide, by decide +kernel, by decide, by decide +kernel⟩
theorem gPi_X9_35_7 : GPi RX9 35 7 705 := ⟨5, ⟨⟨RX10, TX10, 19, "PailRow$Team", rfl, by decide, in_X10, Or.inl q510, Or.inl rfl⟩, by decide +kernel, by decide +kernel, pd_7⟩, by decide, by decide +kernel, by decide, by decide +kernel⟩
theorem gPi_X9_35_8 : GPi RX9 35 8 805 := ⟨5, ⟨⟨RX11, TX11, 10, "PailRow$Team", rfl, by decide, in_X11, Or.inl q510, Or.inl rfl⟩, by decide +kernel, by decide +kernel, pd_8⟩, by decide, by decide +kernel, by decide, by decide +kernel⟩
theorem gPx_X12_25_9 : GPx RX12 25 9 904 := ⟨4, ⟨⟨RX12, TX12, 6, "PailRow$Barn", rfl, by decide, in_X12, Or.inl q590, Or.inl rfl⟩, by decide +kernel, by decide +kernel, pd_9⟩, by decide, by decide +kernel, by decide, ⟨"PailRow$Yard", by decide +kernel⟩⟩
theorem gPx_X9_15_7 : GPx RX9 15 7 701 := ⟨1, ⟨⟨RX10, TX10, 19, "PailRow$Team", rfl, by decide, in_X10, Or.inl q486, Or.inl rfl⟩, by decide +kernel, by decide +kernel, pd_7⟩, by decide, by decide +kernel, by decide, ⟨"PailRow$Yard", by decide +kernel⟩⟩
theorem gPx_X9_15_8 : GPx RX9 15 8 801 := ⟨1, ⟨⟨RX11, TX11, 10, "PailRow$Team", rfl, by decide, in_X11, Or.inl q486, Or.inl rfl⟩, by decide +kernel, by decide +kernel, pd_8⟩, by decide, by decide +kernel, by decide, ⟨"PailRow$Yard", by decide +kernel⟩⟩
theorem gPz_X11_37_8 : GPz RX11 37 8 809 := ⟨9, ⟨⟨RX11, TX11, 10, "PailRow$Runners", rfl, by decide, in_X11, Or.inl q561, Or.inl rfl⟩, by decide +kernel, by decide +kernel, pd_8⟩, by decide, by decide +kernel, by decide, by decide +kernel⟩
theorem gPz_X1_335_0 : GPz RX1 335 0 19 := ⟨19, ⟨⟨RX1, TX1, 52, "PailRow", rfl, by decide, in_X1, Or.inl q670, Or.inl rfl⟩, by decide +kernel, by decide +kernel, pd_0⟩, by decide, by decide +kernel, by decide, by decide +kernel⟩
theorem hd_X10_begin : yX10_begin.cls = RX10 ∧ yX10_begin.cls ≠ "java/lang/invoke/MethodHandle" ∧ yX10_begin.cls ≠ "java/lang/invoke/VarHandle" ∧ (parseMethodDescriptor yX10_begin.desc).map (fun d => d.parameters.length) = some 4 := by decide +kernel
theorem hd_X10_ends : yX10_ends.cls = RX10 ∧ yX10_ends.cls ≠ "java/lang/invoke/MethodHandle" ∧ yX10_ends.cls ≠ "java/lang/invoke/VarHandle" ∧ (parseMethodDescriptor yX10_ends.desc).map (fun d => d.parameters.length) = some 1 := by decide +kernel
theorem hd_X10_heap : yX10_heap.cls = RX10 ∧ yX10_heap.cls ≠ "java/lang/invoke/MethodHandle" ∧ yX10_heap.cls ≠ "java/lang/invoke/VarHandle" ∧ (parseMethodDescriptor yX10_heap.desc).map (fun d => d.parameters.length) = some 0 := by decide +kernel
theorem hd_X10_period : yX10_period.cls = RX10 ∧ yX10_period.cls ≠ "java/lang/invoke/MethodHandle" ∧ yX10_period.cls ≠ "java/lang/invoke/VarHandle" ∧ (parseMethodDescriptor yX10_period.desc).map (fun d => d.parameters.length) = some 0 := by decide +kernel
theorem hd_X10_starts : yX10_starts.cls = RX10 ∧ yX10_starts.cls ≠ "java/lang/invoke/MethodHandle" ∧ yX10_starts.cls ≠ "java/lang/invoke/VarHandle" ∧ (parseMethodDescriptor yX10_starts.desc).map (fun d => d.parameters.length) = some 1 := by decide +kernel
theorem hd_X10_ticks : yX10_ticks.cls = RX10 ∧ yX10_ticks.cls ≠ "java/lang/invoke/MethodHandle" ∧ yX10_ticks.cls ≠ "java/lang/invoke/VarHandle" ∧ (parseMethodDescriptor yX10_ticks.desc).map (fun d => d.parameters.length) = some 0 := by decide +kernel
theorem hd_X10_time : yX10_time.cls = RX10 ∧ yX10_time.cls ≠ "java/lang/invoke/MethodHandle" ∧ yX10_time.cls ≠ "java/lang/invoke/VarHandle" ∧ (parseMethodDescriptor yX10_time.desc).map (fun d => d.parameters.length) = some 1 := by decide +kernel
theorem hd_X11_begin : yX11_begin.cls = RX11 ∧ yX11_begin.cls ≠ "java/lang/invoke/MethodHandle" ∧ yX11_begin.cls ≠ "java/lang/invoke/VarHandle" ∧ (parseMethodDescriptor yX11_begin.desc).map (fun d => d.parameters.length) = some 4 := by decide +kernel
theorem hd_X11_ends : yX11_ends.cls = RX11 ∧ yX11_ends.cls ≠ "java/lang/invoke/MethodHandle" ∧ yX11_ends.cls ≠ "java/lang/invoke/VarHandle" ∧ (parseMethodDescriptor yX11_ends.desc).map (fun d => d.parameters.length) = some 1 := by decide +kernel
theorem hd_X11_ticks : yX11_ticks.cls = RX11 ∧ yX11_ticks.cls ≠ "java/lang/invoke/MethodHandle" ∧ yX11_ticks.cls ≠ "java/lang/invoke/VarHandle" ∧ (parseMethodDescriptor yX11_ticks.desc).map (fun d => d.parameters.length) = some 0 := by decide +kernel
theorem hd_X12_aimed : yX12_aimed.cls = RX12 ∧ yX12_aimed.cls ≠ "java/lang/invoke/MethodHandle" ∧ yX12_aimed.cls ≠ "java/lang/invoke/VarHandle" ∧ (parseMethodDescriptor yX12_aimed.desc).map (fun d => d.parameters.length) = some 1 := by decide +kernel
theorem hd_X12_be : yX12_be.cls = RX12 ∧ yX12_be.cls ≠ "java/lang/invoke/MethodHandle" ∧ yX12_be.cls ≠ "java/lang/invoke/VarHandle" ∧ (parseMethodDescriptor yX12_be.desc).map (fun d => d.parameters.length) = some 1 := by decide +kernel
theorem hd_X12_begin : yX12_begin.cls = RX12 ∧ yX12_begin.cls ≠ "java/lang/invoke/MethodHandle" ∧ yX12_begin.cls ≠ "java/lang/invoke/VarHandle" ∧ (parseMethodDescriptor yX12_begin.desc).map (fun d => d.parameters.length) = some 1 := by decide +kernel
theorem hd_X12_burning : yX12_burning.cls = RX12 ∧ yX12_burning.cls ≠ "java/lang/invoke/MethodHandle" ∧ yX12_burning.cls ≠ "java/lang/invoke/VarHandle" ∧ (parseMethodDescriptor yX12_burning.desc).map (fun d => d.parameters.length) = some 0 := by decide +kernel
theorem hd_X12_give : yX12_give.cls = RX12 ∧ yX12_give.cls ≠ "java/lang/invoke/MethodHandle" ∧ yX12_give.cls ≠ "java/lang/invoke/VarHandle" ∧ (parseMethodDescriptor yX12_give.desc).map (fun d => d.parameters.length) = some 1 := by decide +kernel
theorem hd_X12_gives : yX12_gives.cls = RX12 ∧ yX12_gives.cls ≠ "java/lang/invoke/MethodHandle" ∧ yX12_gives.cls ≠ "java/lang/invoke/VarHandle" ∧ (parseMethodDescriptor yX12_gives.desc).map (fun d => d.parameters.length) = some 3 := by decide +kernel
theorem hd_X12_hottest : yX12_hottest.cls = RX12 ∧ yX12_hottest.cls ≠ "java/lang/invoke/MethodHandle" ∧ yX12_hottest.cls ≠ "java/lang/invoke/VarHandle" ∧ (parseMethodDescriptor yX12_hottest.desc).map (fun d => d.parameters.length) = some 0 := by decide +kernel
theorem hd_X12_minute : yX12_minute.cls = RX12 ∧ yX12_minute.cls ≠ "java/lang/invoke/MethodHandle" ∧ yX12_minute.cls ≠ "java/lang/invoke/VarHandle" ∧ (parseMethodDescriptor yX12_minute.desc).map (fun d => d.parameters.length) = some 2 := by decide +kernel
theorem hd_X12_warm : yX12_warm.cls = RX12 ∧ yX12_warm.cls ≠ "java/lang/invoke/MethodHandle" ∧ yX12_warm.cls ≠ "java/lang/invoke/VarHandle" ∧ (parseMethodDescriptor yX12_warm.desc).map (fun d => d.parameters.length) = some 0 := by decide +kernel
theorem hd_X1_areAsked : yX1_areAsked.cls = RX1 ∧ yX1_areAsked.cls ≠ "java/lang/invoke/MethodHandle" ∧ yX1_areAsked.cls ≠ "java/lang/invoke/VarHandle" ∧ (parseMethodDescriptor yX1_areAsked.desc).map (fun d => d.parameters.length) = some 3 := by decide +kernel
theorem hd_X1_areLitres : yX1_areLitres.cls = RX1 ∧ yX1_areLitres.cls ≠ "java/lang/invoke/MethodHandle" ∧ yX1_areLitres.cls ≠ "java/lang/invoke/VarHandle" ∧ (parseMethodDescriptor yX1_areLitres.desc).map (fun d => d.parameters.length) = some 1 := by decide +kernel
theorem hd_X1_areTicks : yX1_areTicks.cls = RX1 ∧ yX1_areTicks.cls ≠ "java/lang/invoke/MethodHandle" ∧ yX1_areTicks.cls ≠ "java/lang/invoke/VarHandle" ∧ (parseMethodDescriptor yX1_areTicks.desc).map (fun d => d.parameters.length) = some 1 := by decide +kernel
theorem hd_X1_four : yX1_four.cls = RX1 ∧ yX1_four.cls ≠ "java/lang/invoke/MethodHandle" ∧ yX1_four.cls ≠ "java/lang/invoke/VarHandle" ∧ (parseMethodDescriptor yX1_four.desc).map (fun d => d.parameters.length) = some 1 := by decide +kernel
theorem hd_X1_hang : yX1_hang.cls = RX1 ∧ yX1_hang.cls ≠ "java/lang/invoke/MethodHandle" ∧ yX1_hang.cls ≠ "java/lang/invoke/VarHandle" ∧ (parseMethodDescriptor yX1_hang.desc).map (fun d => d.parameters.length) = some 3 := by decide +kernel
theorem hd_X1_isIn : yX1_isIn.cls = RX1 ∧ yX1_isIn.cls ≠ "java/lang/invoke/MethodHandle" ∧ yX1_isIn.cls ≠ "java/lang/invoke/VarHandle" ∧ (parseMethodDescriptor yX1_isIn.desc).map (fun d => d.parameters.length) = some 3 := by decide +kernel
theorem hd_X1_isMan : yX1_isMan.cls = RX1 ∧ yX1_isMan.cls ≠ "java/lang/invoke/MethodHandle" ∧ yX1_isMan.cls ≠ "java/lang/invoke/VarHandle" ∧ (parseMethodDescriptor yX1_isMan.desc).map (fun d => d.parameters.length) = some 1 := by decide +kernel
theorem hd_X1_keep : yX1_keep.cls = RX1 ∧ yX1_keep.cls ≠ "java/lang/invoke/MethodHandle" ∧ yX1_keep.cls ≠ "java/lang/invoke/VarHandle" ∧ (parseMethodDescriptor yX1_keep.desc).map (fun d => d.parameters.length) = some 0 := by decide +kernel
theorem hd_X1_lostBy : yX1_lostBy.cls = RX1 ∧ yX1_lostBy.cls ≠ "java/lang/invoke/MethodHandle" ∧ yX1_lostBy.cls ≠ "java/lang/invoke/VarHandle" ∧ (parseMethodDescriptor yX1_lostBy.desc).map (fun d => d.parameters.length) = some 2 := by decide +kernel
theorem hd_X1_next : yX1_next.cls = RX1 ∧ yX1_next.cls ≠ "java/lang/invoke/MethodHandle" ∧ yX1_next.cls ≠ "java/lang/invoke/VarHandle" ∧ (parseMethodDescriptor yX1_next.desc).map (fun d => d.parameters.length) = some 5 := by decide +kernel
theorem hd_X1_one : yX1_one.cls = RX1 ∧ yX1_one.cls ≠ "java/lang/invoke/MethodHandle" ∧ yX1_one.cls ≠ "java/lang/invoke/VarHandle" ∧ (parseMethodDescriptor yX1_one.desc).map (fun d => d.parameters.length) = some 1 := by decide +kernel
theorem hd_X1_orders : yX1_orders.cls = RX1 ∧ yX1_orders.cls ≠ "java/lang/invoke/MethodHandle" ∧ yX1_orders.cls ≠ "java/lang/invoke/VarHandle" ∧ (parseMethodDescriptor yX1_orders.desc).map (fun d => d.parameters.length) = some 2 := by decide +kernel
theorem hd_X1_relieves : yX1_relieves.cls = RX1 ∧ yX1_relieves.cls ≠ "java/lang/invoke/MethodHandle" ∧ yX1_relieves.cls ≠ "java/lang/invoke/VarHandle" ∧ (parseMethodDescriptor yX1_relieves.desc).map (fun d => d.parameters.length) = some 1 := by decide +kernel
theorem hd_X1_rows : yX1_rows.cls = RX1 ∧ yX1_rows.cls ≠ "java/lang/invoke/MethodHandle" ∧ yX1_rows.cls ≠ "java/lang/invoke/VarHandle" ∧ (parseMethodDescriptor yX1_rows.desc).map (fun d => d.parameters.length) = some 4 := by decide +kernel
theorem hd_X1_runs : yX1_runs.cls = RX1 ∧ yX1_runs.cls ≠ "java/lang/invoke/MethodHandle" ∧ yX1_runs.cls ≠ "java/lang/invoke/VarHandle" ∧ (parseMethodDescriptor yX1_runs.desc).map (fun d => d.parameters.length) = some 3 := by decide +kernel
theorem hd_X1_slowest : yX1_slowest.cls = RX1 ∧ yX1_slowest.cls ≠ "java/lang/invoke/MethodHandle" ∧ yX1_slowest.cls ≠ "java/lang/invoke/VarHandle" ∧ (parseMethodDescriptor yX1_slowest.desc).map (fun d => d.parameters.length) = some 0 := by decide +kernel
theorem hd_X1_taken : yX1_taken.cls = RX1 ∧ yX1_taken.cls ≠ "java/lang/invoke/MethodHandle" ∧ yX1_taken.cls ≠ "java/lang/invoke/VarHandle" ∧ (parseMethodDescriptor yX1_taken.desc).map (fun d => d.parameters.length) = some 0 := by decide +kernel
theorem hd_X1_timeBy : yX1_timeBy.cls = RX1 ∧ yX1_timeBy.cls ≠ "java/lang/invoke/MethodHandle" ∧ yX1_timeBy.cls ≠ "java/lang/invoke/VarHandle" ∧ (parseMethodDescriptor yX1_timeBy.desc).map (fun d => d.parameters.length) = some 1 := by decide +kernel
theorem hd_X1_tries : yX1_tries.cls = RX1 ∧ yX1_tries.cls ≠ "java/lang/invoke/MethodHandle" ∧ yX1_tries.cls ≠ "java/lang/invoke/VarHandle" ∧ (parseMethodDescriptor yX1_tries.desc).map (fun d => d.parameters.length) = some 3 := by decide +kernel
theorem hd_X1_up : yX1_up.cls = RX1 ∧ yX1_up.cls ≠ "java/lang/invoke/MethodHandle" ∧ yX1_up.cls ≠ "java/lang/invoke/VarHandle" ∧ (parseMethodDescriptor yX1_up.desc).map (fun d => d.parameters.length) = some 2 := by decide +kernel
theorem hd_X1_wayBy : yX1_wayBy.cls = RX1 ∧ yX1_wayBy.cls ≠ "java/lang/invoke/MethodHandle" ∧ yX1_wayBy.cls ≠ "java/lang/invoke/VarHandle" ∧ (parseMethodDescriptor yX1_wayBy.desc).map (fun d => d.parameters.length) = some 1 := by decide +kernel
theorem hd_X4_isAim : yX4_isAim.cls = RX4 ∧ yX4_isAim.cls ≠ "java/lang/invoke/MethodHandle" ∧ yX4_isAim.cls ≠ "java/lang/invoke/VarHandle" ∧ (parseMethodDescriptor yX4_isAim.desc).map (fun d => d.parameters.length) = some 1 := by decide +kernel
theorem hd_X4_isCell : yX4_isCell.cls = RX4 ∧ yX4_isCell.cls ≠ "java/lang/invoke/MethodHandle" ∧ yX4_isCell.cls ≠ "java/lang/invoke/VarHandle" ∧ (parseMethodDescriptor yX4_isCell.desc).map (fun d => d.parameters.length) = some 2 := by decide +kernel
theorem hd_X9_begin : yX9_begin.cls = RX9 ∧ yX9_begin.cls ≠ "java/lang/invoke/MethodHandle" ∧ yX9_begin.cls ≠ "java/lang/invoke/VarHandle" ∧ (parseMethodDescriptor yX9_begin.desc).map (fun d => d.parameters.length) = some 4 := by decide +kernel
theorem hd_X9_draws : yX9_draws.cls = RX9 ∧ yX9_draws.cls ≠ "java/lang/invoke/MethodHandle" ∧ yX9_draws.cls ≠ "java/lang/invoke/VarHandle" ∧ (parseMethodDescriptor yX9_draws.desc).map (fun d => d.parameters.length) = some 0 := by decide +kernel
theorem hd_X9_goes : yX9_goes.cls = RX9 ∧ yX9_goes.cls ≠ "java/lang/invoke/MethodHandle" ∧ yX9_goes.cls ≠ "java/lang/invoke/VarHandle" ∧ (parseMethodDescriptor yX9_goes.desc).map (fun d => d.parameters.length) = some 1 := by decide +kernel
theorem hd_X9_man : yX9_man.cls = RX9 ∧ yX9_man.cls ≠ "java/lang/invoke/MethodHandle" ∧ yX9_man.cls ≠ "java/lang/invoke/VarHandle" ∧ (parseMethodDescriptor yX9_man.desc).map (fun d => d.parameters.length) = some 1 := by decide +kernel
theorem gi_X10_103 : GoodIn lw_all (wsV RX10 103 RX10 yX10_ends (ws_ yX10_ends cX10_ends 3 none)) := lw_V q1155 q1157 qs12 q114 q1158
theorem gi_X10_110 : GoodIn lw_all (wsV RX10 110 RX10 yX10_starts (ws_ yX10_starts cX10_starts 2 none)) := lw_V q1159 q1161 qs13 q114 q1162
theorem gi_X10_91 : GoodIn lw_all (wsV RX10 91 RX10 yX10_time (ws_ yX10_time cX10_time 3 (some .int))) := lw_V q1163 q1164 q1165 q114 q1166
theorem gi_X11_44 : GoodIn lw_all (wsV RX11 44 RX11 yX11_ends (ws_ yX11_ends cX11_ends 2 none)) := lw_V q1191 q1193 qs14 q115 q1194
theorem gi_X12_43 : GoodIn lw_all (wsV RX12 43 RX4 yX4_isCell (ws_ yX4_isCell cX4_isCell 3 (some .boolean))) := lw_V q1349 q1107 q1108 q108 q1109
theorem gi_X12_56 : GoodIn lw_all (wsV RX12 56 RX12 yX12_gives (ws_ yX12_gives cX12_gives 5 (some .int))) := lw_V q1345 q1347 qs25 q116 q1348
theorem gi_X12_60 : GoodIn lw_all (wsV RX12 60 RX12 yX12_warm (ws_ yX12_warm cX12_warm 4 none)) := lw_V q1341 q1342 q1343 q116 q1344
theorem gi_X12_63 : GoodIn lw_all (wsV RX12 63 RX12 yX12_hottest (ws_ yX12_hottest cX12_hottest 4 (some .int))) := lw_V q1337 q1339 qs24 q116 q1340
theorem gi_X1_218 : GoodIn lw_all (wsV RX1 218 RX1 yX1_four (ws_ yX1_four cX1_four 3 none)) := lw_V q817 q819 qs1 q103 q820
theorem gi_X1_228 : GoodIn lw_all (wsV RX1 228 RX1 yX1_taken (ws_ yX1_taken cX1_taken 1 none)) := lw_V q829 q831 qs2 q103 q832
theorem gi_X1_271 : GoodIn lw_all (va_wsS RX1 271 yX1_isIn (ws_ yX1_isIn cX1_isIn 3 (some .boolean))) := lw_S q1121 q861 q103 q862
theorem gi_X1_275 : GoodIn lw_all (wsV RX1 275 RX1 yX1_isMan (ws_ yX1_isMan cX1_isMan 2 (some .boolean))) := lw_V q1126 q1128 qs11 q103 q1129
theorem gi_X1_298 : GoodIn lw_all (wsV RX1 298 RX4 yX4_isCell (ws_ yX4_isCell cX4_isCell 3 (some .boolean))) := lw_V q1358 q1107 q1108 q108 q1109
theorem gi_X1_311 : GoodIn lw_all (wsV RX1 311 RX1 yX1_one (ws_ yX1_one cX1_one 2 (some .int))) := lw_V q1122 q1124 qs10 q103 q1125
theorem gi_X1_315 : GoodIn lw_all (wsV RX1 315 RX1 yX1_areAsked (ws_ yX1_areAsked cX1_areAsked 6 (some .boolean))) := lw_V q1117 q1119 qs9 q103 q1120
theorem gi_X1_318 : GoodIn lw_all (va_wsS RX1 318 yX1_areTicks (ws_ yX1_areTicks cX1_areTicks 1 (some .boolean))) := lw_S q1130 q1131 q103 q1132
theorem gi_X1_323 : GoodIn lw_all (wsV RX1 323 RX10 yX10_begin (ws_ yX10_begin cX10_begin 6 none)) := lw_V q1133 q1134 q1135 q114 q1136
theorem gi_X1_330 : GoodIn lw_all (wsV RX1 330 RX1 yX1_keep (ws_ yX1_keep cX1_keep 2 none)) := lw_V q1202 q1204 qs15 q103 q1205
theorem gi_X1_339 : GoodIn lw_all (wsV RX1 339 RX10 yX10_heap (ws_ yX10_heap cX10_heap 3 (some .int))) := lw_V q1206 q1207 q1208 q114 q1209
theorem gi_X1_365 : GoodIn lw_all (wsV RX1 365 RX10 yX10_period (ws_ yX10_period cX10_period 3 (some .int))) := lw_V q1223 q1224 q1225 q114 q1226
theorem gi_X1_372 : GoodIn lw_all (wsV RX1 372 RX1 yX1_orders (ws_ yX1_orders cX1_orders 4 none)) := lw_V q1232 q1234 qs16 q103 q1235
theorem gi_X1_379 : GoodIn lw_all (wsV RX1 379 RX11 yX11_begin (ws_ yX11_begin cX11_begin 6 none)) := lw_V q1248 q1249 q1250 q115 q1251
theorem gi_X1_381 : GoodIn lw_all (wsV RX1 381 RX1 yX1_runs (ws_ yX1_runs cX1_runs 4 (some .int))) := lw_V q1244 q1246 qs17 q103 q1247
theorem gi_X1_385 : GoodIn lw_all (wsV RX1 385 RX1 yX1_rows (ws_ yX1_rows cX1_rows 5 (some .int))) := lw_V q1261 q1263 qs18 q103 q1264
theorem gi_X1_390 : GoodIn lw_all (wsV RX1 390 RX10 yX10_time (ws_ yX10_time cX10_time 3 (some .int))) := lw_V q1277 q1164 q1165 q114 q1166
theorem gi_X1_393 : GoodIn lw_all (va_wsS RX1 393 yX1_up (ws_ yX1_up cX1_up 2 (some .int))) := lw_S q1278 q1168 q103 q1169
theorem gi_X1_397 : GoodIn lw_all (wsV RX1 397 RX1 yX1_timeBy (ws_ yX1_timeBy cX1_timeBy 2 (some .int))) := lw_V q1273 q1275 qs20 q103 q1276
theorem gi_X1_400 : GoodIn lw_all (wsV RX1 400 RX1 yX1_slowest (ws_ yX1_slowest cX1_slowest 3 (some .int))) := lw_V q1269 q1271 qs19 q103 q1272
theorem gi_X1_406 : GoodIn lw_all (wsV RX1 406 RX1 yX1_relieves (ws_ yX1_relieves cX1_relieves 4 (some .boolean))) := lw_V q1287 q1289 qs21 q103 q1290
theorem gi_X1_417 : GoodIn lw_all (wsV RX1 417 RX1 yX1_hang (ws_ yX1_hang cX1_hang 5 none)) := lw_V q1296 q1298 qs22 q103 q1299
theorem gi_X1_424 : GoodIn lw_all (wsV RX1 424 RX1 yX1_wayBy (ws_ yX1_wayBy cX1_wayBy 6 (some .int))) := lw_V q1300 q1302 qs23 q103 q1303
theorem gi_X1_433 : GoodIn lw_all (va_wsS RX1 433 yX1_areLitres (ws_ yX1_areLitres cX1_areLitres 1 (some .boolean))) := lw_S q1316 q1317 q103 q1318
theorem gi_X1_436 : GoodIn lw_all (wsV RX1 436 RX4 yX4_isAim (ws_ yX4_isAim cX4_isAim 2 (some .boolean))) := lw_V q1319 q1102 q1103 q108 q1104
theorem gi_X1_439 : GoodIn lw_all (wsV RX1 439 RX12 yX12_begin (ws_ yX12_begin cX12_begin 3 none)) := lw_V q1320 q1321 q1322 q116 q1323
theorem gi_X1_445 : GoodIn lw_all (wsV RX1 445 RX12 yX12_burning (ws_ yX12_burning cX12_burning 3 (some .int))) := lw_V q1324 q1325 q1326 q116 q1327
theorem gi_X1_450 : GoodIn lw_all (wsV RX1 450 RX12 yX12_be (ws_ yX12_be cX12_be 2 none)) := lw_V q1328 q1329 q1330 q116 q1331
theorem gi_X1_454 : GoodIn lw_all (wsV RX1 454 RX12 yX12_aimed (ws_ yX12_aimed cX12_aimed 5 (some .int))) := lw_V q1333 q1334 q1335 q116 q1336
theorem gi_X1_457 : GoodIn lw_all (wsV RX1 457 RX12 yX12_minute (ws_ yX12_minute cX12_minute 5 none)) := lw_V q1350 q1351 q1352 q116 q1353
theorem gi_X1_472 : GoodIn lw_all (wsV RX1 472 RX1 yX1_tries (ws_ yX1_tries cX1_tries 6 none)) := lw_V q1367 q1369 qs26 q103 q1370
theorem gi_X1_478 : GoodIn lw_all (wsV RX1 478 RX1 yX1_next (ws_ yX1_next cX1_next 6 none)) := lw_V q1371 q1373 qs27 q103 q1374
theorem gi_X1_482 : GoodIn lw_all (wsV RX1 482 RX12 yX12_give (ws_ yX12_give cX12_give 4 (some .int))) := lw_V q1387 q1388 q1389 q116 q1390
theorem gi_X1_484 : GoodIn lw_all (wsV RX1 484 RX1 yX1_lostBy (ws_ yX1_lostBy cX1_lostBy 5 (some .int))) := lw_V q1383 q1385 qs28 q103 q1386
theorem gi_X4_60 : GoodIn lw_all (wsV RX4 60 RX4 yX4_isCell (ws_ yX4_isCell cX4_isCell 3 (some .boolean))) := lw_V q1106 q1107 q1108 q108 q1109
theorem gs_X10_38 : GoodIn lw_all (va_wsSU RX10 38 yX9_begin (ws_ yX9_begin cX9_begin 5 none)) := lw_app (List.forall_mem_cons.mpr ⟨q1137, List.forall_mem_cons.mpr ⟨q2342, List.forall_mem_cons.mpr ⟨q551, List.forall_mem_cons.mpr ⟨q1138, List.forall_mem_cons.mpr ⟨q113, fun _ h => absurd h List.not_mem_nil⟩⟩⟩⟩⟩) (lw_meth q1139)
theorem gs_X11_33 : GoodIn lw_all (va_wsSU RX11 33 yX9_begin (ws_ yX9_begin cX9_begin 5 none)) := lw_app (List.forall_mem_cons.mpr ⟨q1253, List.forall_mem_cons.mpr ⟨q2342, List.forall_mem_cons.mpr ⟨q576, List.forall_mem_cons.mpr ⟨q1138, List.forall_mem_cons.mpr ⟨q113, fun _ h => absurd h List.not_mem_nil⟩⟩⟩⟩⟩) (lw_meth q1139)
theorem gu_X10_123_7 : GoodIn lw_all (va_wsU RX10 123 RX10 "PailRow$Team" ⟨"PailRow$Row", "draws", "()I"⟩ yX9_draws (ws_ yX9_draws cX9_draws 2 (some .int))) := lw_app (List.forall_mem_cons.mpr ⟨q1176, List.forall_mem_cons.mpr ⟨q1177, List.forall_mem_cons.mpr ⟨q1179, List.forall_mem_cons.mpr ⟨q1180, List.forall_mem_cons.mpr ⟨q113, fun _ h => absurd h List.not_mem_nil⟩⟩⟩⟩⟩) (lw_meth q1181)
theorem gu_X10_76_7 : GoodIn lw_all (va_wsU RX10 76 RX10 "PailRow$Team" ⟨"PailRow$Row", "man", "(I)LPailRow$Man;"⟩ yX9_man (ws_ yX9_man cX9_man 2 (some (.object "PailRow$Man")))) := lw_app (List.forall_mem_cons.mpr ⟨q1170, List.forall_mem_cons.mpr ⟨q1171, List.forall_mem_cons.mpr ⟨q1173, List.forall_mem_cons.mpr ⟨q1174, List.forall_mem_cons.mpr ⟨q113, fun _ h => absurd h List.not_mem_nil⟩⟩⟩⟩⟩) (lw_meth q1175)
theorem gu_X11_51_8 : GoodIn lw_all (va_wsU RX11 51 RX11 "PailRow$Team" ⟨"PailRow$Runners", "draws", "()I"⟩ yX9_draws (ws_ yX9_draws cX9_draws 2 (some .int))) := lw_app (List.forall_mem_cons.mpr ⟨q1199, List.forall_mem_cons.mpr ⟨q1200, List.forall_mem_cons.mpr ⟨q1201, List.forall_mem_cons.mpr ⟨q1180, List.forall_mem_cons.mpr ⟨q113, fun _ h => absurd h List.not_mem_nil⟩⟩⟩⟩⟩) (lw_meth q1181)
theorem gu_X11_65_8 : GoodIn lw_all (va_wsU RX11 65 RX11 "PailRow$Team" ⟨"PailRow$Runners", "man", "(I)LPailRow$Man;"⟩ yX9_man (ws_ yX9_man cX9_man 2 (some (.object "PailRow$Man")))) := lw_app (List.forall_mem_cons.mpr ⟨q1195, List.forall_mem_cons.mpr ⟨q1196, List.forall_mem_cons.mpr ⟨q1197, List.forall_mem_cons.mpr ⟨q1174, List.forall_mem_cons.mpr ⟨q113, fun _ h => absurd h List.not_mem_nil⟩⟩⟩⟩⟩) (lw_meth q1175)
theorem gu_X1_327_7 : GoodIn lw_all (va_wsU RX1 327 RX10 "PailRow$Team" ⟨"PailRow$Row", "goes", "(I)I"⟩ yX9_goes (ws_ yX9_goes cX9_goes 4 (some .int))) := lw_app (List.forall_mem_cons.mpr ⟨q1143, List.forall_mem_cons.mpr ⟨q1144, List.forall_mem_cons.mpr ⟨q1146, List.forall_mem_cons.mpr ⟨q1147, List.forall_mem_cons.mpr ⟨q113, fun _ h => absurd h List.not_mem_nil⟩⟩⟩⟩⟩) (lw_meth q1148)
theorem gu_X1_380_8 : GoodIn lw_all (va_wsU RX1 380 RX11 "PailRow$Team" ⟨"PailRow$Runners", "goes", "(I)I"⟩ yX9_goes (ws_ yX9_goes cX9_goes 4 (some .int))) := lw_app (List.forall_mem_cons.mpr ⟨q1254, List.forall_mem_cons.mpr ⟨q1255, List.forall_mem_cons.mpr ⟨q1256, List.forall_mem_cons.mpr ⟨q1147, List.forall_mem_cons.mpr ⟨q113, fun _ h => absurd h List.not_mem_nil⟩⟩⟩⟩⟩) (lw_meth q1148)
theorem gu_X9_43_7 : GoodIn lw_all (va_wsU RX9 43 RX10 "PailRow$Team" ⟨"PailRow$Team", "ticks", "()V"⟩ yX10_ticks (ws_ yX10_ticks cX10_ticks 2 none)) := lw_app (List.forall_mem_cons.mpr ⟨q1149, List.forall_mem_cons.mpr ⟨q1151, List.forall_mem_cons.mpr ⟨q1152, List.forall_mem_cons.mpr ⟨q1153, List.forall_mem_cons.mpr ⟨q114, fun _ h => absurd h List.not_mem_nil⟩⟩⟩⟩⟩) (lw_meth q1154)
theorem gu_X9_43_8 : GoodIn lw_all (va_wsU RX9 43 RX11 "PailRow$Team" ⟨"PailRow$Team", "ticks", "()V"⟩ yX11_ticks (ws_ yX11_ticks cX11_ticks 2 none)) := lw_app (List.forall_mem_cons.mpr ⟨q1149, List.forall_mem_cons.mpr ⟨q1151, List.forall_mem_cons.mpr ⟨q1188, List.forall_mem_cons.mpr ⟨q1189, List.forall_mem_cons.mpr ⟨q115, fun _ h => absurd h List.not_mem_nil⟩⟩⟩⟩⟩) (lw_meth q1190)
