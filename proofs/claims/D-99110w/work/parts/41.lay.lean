/-! THE LAYOUT: where the cells of both objects lie -/
def tTl : List (Nat × Nat) := [(99, 0), (0, 22), (20, 10), (20, 10), (1, 10), (2, 16), (3, 1), (22, 10), (20, 10), (20, 10), (20, 10), (20, 10), (20, 10), (20, 10), (20, 10), (20, 10), (20, 10), (20, 10), (20, 10), (20, 40), (2, 16), (3, 1), (22, 10), (20, 10), (20, 10), (20, 10), (20, 10), (20, 10), (20, 10), (20, 10), (20, 10), (20, 10), (20, 10), (20, 10), (20, 40), (2, 16), (3, 1), (22, 10), (20, 10), (20, 10), (20, 10), (20, 10), (20, 10), (20, 10), (20, 10), (20, 10), (20, 10), (20, 10), (20, 10), (20, 40), (21, 260), (4, 4), (20, 16), (23, 16), (24, 16), (3, 1), (22, 10), (20, 10), (20, 10), (20, 10), (20, 10), (20, 10), (20, 10), (20, 10), (20, 10), (20, 10), (20, 10), (20, 60), (20, 60), (22, 10), (20, 10), (20, 10), (20, 10), (20, 10), (20, 10), (20, 10), (20, 10), (20, 10), (20, 10), (20, 10), (20, 6), (20, 6), (20, 12), (20, 12), (20, 1024), (5, 62), (20, 159), (20, 159), (20, 159), (20, 10), (20, 10), (21, 260), (20, 260), (20, 260), (20, 16), (20, 16), (20, 16), (20, 16), (20, 260), (20, 16), (20, 16), (20, 16), (20, 16), (20, 260), (20, 8), (20, 100), (20, 60), (20, 2), (20, 2), (20, 2), (20, 100), (20, 60), (20, 12), (20, 12), (21, 40960), (20, 100), (20, 100), (20, 6), (20, 6), (20, 6), (20, 6), (20, 1024), (20, 1024)]
def tPl : List (List Nat) := [[], [2, 3, 0, 4, 5, 20, 35, 50, 51, 0, 0, 0, 55, 67, 68, 0, 69, 80, 81, 82, 83, 84], [], [], [0, 0, 0, 0, 0, 0, 0, 0, 0, 1], [6, 18, 19, 0, 0, 0, 0, 0, 0, 0, 0, 0, 0, 0, 0, 1], [7], [8, 9, 10, 11, 12, 13, 14, 15, 16, 17], [], [], [], [], [], [], [], [], [], [], [], [], [21, 33, 34, 0, 0, 0, 0, 0, 0, 0, 0, 0, 0, 0, 0, 1], [22], [23, 24, 25, 26, 27, 28, 29, 30, 31, 32], [], [], [], [], [], [], [], [], [], [], [], [], [36, 48, 49, 0, 0, 0, 0, 0, 0, 0, 0, 0, 0, 0, 0, 1], [37], [38, 39, 40, 41, 42, 43, 44, 45, 46, 47], [], [], [], [], [], [], [], [], [], [], [], [], [], [52, 53, 54], [], [], [], [56], [57, 58, 59, 60, 61, 62, 63, 64, 65, 66], [], [], [], [], [], [], [], [], [], [], [], [], [70, 71, 72, 73, 74, 75, 76, 77, 78, 79], [], [], [], [], [], [], [], [], [], [], [], [], [], [], [], [86, 87, 88, 89, 90, 0, 91, 0, 0, 0, 0, 0, 0, 0, 0, 0, 0, 92, 93, 94, 95, 96, 97, 98, 99, 100, 101, 102, 103, 104, 105, 0, 0, 0, 0, 0, 106, 107, 108, 109, 0, 0, 0, 0, 0, 0, 110, 111, 112, 113, 0, 114, 115, 116, 117, 118, 119, 120, 0, 121, 122], [], [], [], [], [], [], [], [], [], [], [], [], [], [], [], [], [], [], [], [], [], [], [], [], [], [], [], [], [], [], [], [], [], [], [], [], []]
def tT (a : Nat) : Nat × Nat := tTl.getD a (99, 0)
def tP (a j : Nat) : Nat := (tPl.getD a []).getD j 0
def lay (σ : MM) : Prop := 122 ≤ mN σ ∧ (∀ a, a < 123 → mT σ a = tT a) ∧ ∀ a, a < 123 → ∀ j, j < (tPl.getD a []).length → (a = 1 ∧ j = 8) ∨ mP σ a j = tP a j
section LAY
variable {σ : MM}
theorem T1 (h : lay σ) : mT σ 1 = (0, 22) := h.2.1 1 (by decide)
theorem T2 (h : lay σ) : mT σ 2 = (20, 10) := h.2.1 2 (by decide)
theorem T3 (h : lay σ) : mT σ 3 = (20, 10) := h.2.1 3 (by decide)
theorem T4 (h : lay σ) : mT σ 4 = (1, 10) := h.2.1 4 (by decide)
theorem T5 (h : lay σ) : mT σ 5 = (2, 16) := h.2.1 5 (by decide)
theorem T6 (h : lay σ) : mT σ 6 = (3, 1) := h.2.1 6 (by decide)
theorem T7 (h : lay σ) : mT σ 7 = (22, 10) := h.2.1 7 (by decide)
theorem T8 (h : lay σ) : mT σ 8 = (20, 10) := h.2.1 8 (by decide)
theorem T9 (h : lay σ) : mT σ 9 = (20, 10) := h.2.1 9 (by decide)
theorem T10 (h : lay σ) : mT σ 10 = (20, 10) := h.2.1 10 (by decide)
theorem T11 (h : lay σ) : mT σ 11 = (20, 10) := h.2.1 11 (by decide)
theorem T12 (h : lay σ) : mT σ 12 = (20, 10) := h.2.1 12 (by decide)
theorem T13 (h : lay σ) : mT σ 13 = (20, 10) := h.2.1 13 (by decide)
theorem T14 (h : lay σ) : mT σ 14 = (20, 10) := h.2.1 14 (by decide)
theorem T15 (h : lay σ) : mT σ 15 = (20, 10) := h.2.1 15 (by decide)
theorem T16 (h : lay σ) : mT σ 16 = (20, 10) := h.2.1 16 (by decide)
theorem T17 (h : lay σ) : mT σ 17 = (20, 10) := h.2.1 17 (by decide)
theorem T18 (h : lay σ) : mT σ 18 = (20, 10) := h.2.1 18 (by decide)
theorem T19 (h : lay σ) : mT σ 19 = (20, 40) := h.2.1 19 (by decide)
theorem T20 (h : lay σ) : mT σ 20 = (2, 16) := h.2.1 20 (by decide)
theorem T21 (h : lay σ) : mT σ 21 = (3, 1) := h.2.1 21 (by decide)
theorem T22 (h : lay σ) : mT σ 22 = (22, 10) := h.2.1 22 (by decide)
theorem T23 (h : lay σ) : mT σ 23 = (20, 10) := h.2.1 23 (by decide)
theorem T24 (h : lay σ) : mT σ 24 = (20, 10) := h.2.1 24 (by decide)
theorem T25 (h : lay σ) : mT σ 25 = (20, 10) := h.2.1 25 (by decide)
theorem T26 (h : lay σ) : mT σ 26 = (20, 10) := h.2.1 26 (by decide)
theorem T27 (h : lay σ) : mT σ 27 = (20, 10) := h.2.1 27 (by decide)
theorem T28 (h : lay σ) : mT σ 28 = (20, 10) := h.2.1 28 (by decide)
theorem T29 (h : lay σ) : mT σ 29 = (20, 10) := h.2.1 29 (by decide)
theorem T30 (h : lay σ) : mT σ 30 = (20, 10) := h.2.1 30 (by decide)
theorem T31 (h : lay σ) : mT σ 31 = (20, 10) := h.2.1 31 (by decide)
theorem T32 (h : lay σ) : mT σ 32 = (20, 10) := h.2.1 32 (by decide)
theorem T33 (h : lay σ) : mT σ 33 = (20, 10) := h.2.1 33 (by decide)
theorem T34 (h : lay σ) : mT σ 34 = (20, 40) := h.2.1 34 (by decide)
theorem T35 (h : lay σ) : mT σ 35 = (2, 16) := h.2.1 35 (by decide)
theorem T36 (h : lay σ) : mT σ 36 = (3, 1) := h.2.1 36 (by decide)
theorem T37 (h : lay σ) : mT σ 37 = (22, 10) := h.2.1 37 (by decide)
theorem T38 (h : lay σ) : mT σ 38 = (20, 10) := h.2.1 38 (by decide)
theorem T39 (h : lay σ) : mT σ 39 = (20, 10) := h.2.1 39 (by decide)
theorem T40 (h : lay σ) : mT σ 40 = (20, 10) := h.2.1 40 (by decide)
theorem T41 (h : lay σ) : mT σ 41 = (20, 10) := h.2.1 41 (by decide)
theorem T42 (h : lay σ) : mT σ 42 = (20, 10) := h.2.1 42 (by decide)
theorem T43 (h : lay σ) : mT σ 43 = (20, 10) := h.2.1 43 (by decide)
theorem T44 (h : lay σ) : mT σ 44 = (20, 10) := h.2.1 44 (by decide)
theorem T45 (h : lay σ) : mT σ 45 = (20, 10) := h.2.1 45 (by decide)
theorem T46 (h : lay σ) : mT σ 46 = (20, 10) := h.2.1 46 (by decide)
theorem T47 (h : lay σ) : mT σ 47 = (20, 10) := h.2.1 47 (by decide)
theorem T48 (h : lay σ) : mT σ 48 = (20, 10) := h.2.1 48 (by decide)
theorem T49 (h : lay σ) : mT σ 49 = (20, 40) := h.2.1 49 (by decide)
theorem T50 (h : lay σ) : mT σ 50 = (21, 260) := h.2.1 50 (by decide)
theorem T51 (h : lay σ) : mT σ 51 = (4, 4) := h.2.1 51 (by decide)
theorem T52 (h : lay σ) : mT σ 52 = (20, 16) := h.2.1 52 (by decide)
theorem T53 (h : lay σ) : mT σ 53 = (23, 16) := h.2.1 53 (by decide)
theorem T54 (h : lay σ) : mT σ 54 = (24, 16) := h.2.1 54 (by decide)
theorem T55 (h : lay σ) : mT σ 55 = (3, 1) := h.2.1 55 (by decide)
theorem T56 (h : lay σ) : mT σ 56 = (22, 10) := h.2.1 56 (by decide)
theorem T57 (h : lay σ) : mT σ 57 = (20, 10) := h.2.1 57 (by decide)
theorem T58 (h : lay σ) : mT σ 58 = (20, 10) := h.2.1 58 (by decide)
theorem T59 (h : lay σ) : mT σ 59 = (20, 10) := h.2.1 59 (by decide)
theorem T60 (h : lay σ) : mT σ 60 = (20, 10) := h.2.1 60 (by decide)
theorem T61 (h : lay σ) : mT σ 61 = (20, 10) := h.2.1 61 (by decide)
theorem T62 (h : lay σ) : mT σ 62 = (20, 10) := h.2.1 62 (by decide)
theorem T63 (h : lay σ) : mT σ 63 = (20, 10) := h.2.1 63 (by decide)
theorem T64 (h : lay σ) : mT σ 64 = (20, 10) := h.2.1 64 (by decide)
theorem T65 (h : lay σ) : mT σ 65 = (20, 10) := h.2.1 65 (by decide)
theorem T66 (h : lay σ) : mT σ 66 = (20, 10) := h.2.1 66 (by decide)
theorem T67 (h : lay σ) : mT σ 67 = (20, 60) := h.2.1 67 (by decide)
theorem T68 (h : lay σ) : mT σ 68 = (20, 60) := h.2.1 68 (by decide)
theorem T69 (h : lay σ) : mT σ 69 = (22, 10) := h.2.1 69 (by decide)
theorem T70 (h : lay σ) : mT σ 70 = (20, 10) := h.2.1 70 (by decide)
theorem T71 (h : lay σ) : mT σ 71 = (20, 10) := h.2.1 71 (by decide)
theorem T72 (h : lay σ) : mT σ 72 = (20, 10) := h.2.1 72 (by decide)
theorem T73 (h : lay σ) : mT σ 73 = (20, 10) := h.2.1 73 (by decide)
theorem T74 (h : lay σ) : mT σ 74 = (20, 10) := h.2.1 74 (by decide)
theorem T75 (h : lay σ) : mT σ 75 = (20, 10) := h.2.1 75 (by decide)
theorem T76 (h : lay σ) : mT σ 76 = (20, 10) := h.2.1 76 (by decide)
theorem T77 (h : lay σ) : mT σ 77 = (20, 10) := h.2.1 77 (by decide)
theorem T78 (h : lay σ) : mT σ 78 = (20, 10) := h.2.1 78 (by decide)
theorem T79 (h : lay σ) : mT σ 79 = (20, 10) := h.2.1 79 (by decide)
theorem T80 (h : lay σ) : mT σ 80 = (20, 6) := h.2.1 80 (by decide)
theorem T81 (h : lay σ) : mT σ 81 = (20, 6) := h.2.1 81 (by decide)
theorem T82 (h : lay σ) : mT σ 82 = (20, 12) := h.2.1 82 (by decide)
theorem T83 (h : lay σ) : mT σ 83 = (20, 12) := h.2.1 83 (by decide)
theorem T84 (h : lay σ) : mT σ 84 = (20, 1024) := h.2.1 84 (by decide)
theorem T85 (h : lay σ) : mT σ 85 = (5, 62) := h.2.1 85 (by decide)
theorem T86 (h : lay σ) : mT σ 86 = (20, 159) := h.2.1 86 (by decide)
theorem T87 (h : lay σ) : mT σ 87 = (20, 159) := h.2.1 87 (by decide)
theorem T88 (h : lay σ) : mT σ 88 = (20, 159) := h.2.1 88 (by decide)
theorem T89 (h : lay σ) : mT σ 89 = (20, 10) := h.2.1 89 (by decide)
theorem T90 (h : lay σ) : mT σ 90 = (20, 10) := h.2.1 90 (by decide)
theorem T91 (h : lay σ) : mT σ 91 = (21, 260) := h.2.1 91 (by decide)
theorem T92 (h : lay σ) : mT σ 92 = (20, 260) := h.2.1 92 (by decide)
theorem T93 (h : lay σ) : mT σ 93 = (20, 260) := h.2.1 93 (by decide)
theorem T94 (h : lay σ) : mT σ 94 = (20, 16) := h.2.1 94 (by decide)
theorem T95 (h : lay σ) : mT σ 95 = (20, 16) := h.2.1 95 (by decide)
theorem T96 (h : lay σ) : mT σ 96 = (20, 16) := h.2.1 96 (by decide)
theorem T97 (h : lay σ) : mT σ 97 = (20, 16) := h.2.1 97 (by decide)
theorem T98 (h : lay σ) : mT σ 98 = (20, 260) := h.2.1 98 (by decide)
theorem T99 (h : lay σ) : mT σ 99 = (20, 16) := h.2.1 99 (by decide)
theorem T100 (h : lay σ) : mT σ 100 = (20, 16) := h.2.1 100 (by decide)
theorem T101 (h : lay σ) : mT σ 101 = (20, 16) := h.2.1 101 (by decide)
theorem T102 (h : lay σ) : mT σ 102 = (20, 16) := h.2.1 102 (by decide)
theorem T103 (h : lay σ) : mT σ 103 = (20, 260) := h.2.1 103 (by decide)
theorem T104 (h : lay σ) : mT σ 104 = (20, 8) := h.2.1 104 (by decide)
theorem T105 (h : lay σ) : mT σ 105 = (20, 100) := h.2.1 105 (by decide)
theorem T106 (h : lay σ) : mT σ 106 = (20, 60) := h.2.1 106 (by decide)
theorem T107 (h : lay σ) : mT σ 107 = (20, 2) := h.2.1 107 (by decide)
theorem T108 (h : lay σ) : mT σ 108 = (20, 2) := h.2.1 108 (by decide)
theorem T109 (h : lay σ) : mT σ 109 = (20, 2) := h.2.1 109 (by decide)
theorem T110 (h : lay σ) : mT σ 110 = (20, 100) := h.2.1 110 (by decide)
theorem T111 (h : lay σ) : mT σ 111 = (20, 60) := h.2.1 111 (by decide)
theorem T112 (h : lay σ) : mT σ 112 = (20, 12) := h.2.1 112 (by decide)
theorem T113 (h : lay σ) : mT σ 113 = (20, 12) := h.2.1 113 (by decide)
theorem T114 (h : lay σ) : mT σ 114 = (21, 40960) := h.2.1 114 (by decide)
theorem T115 (h : lay σ) : mT σ 115 = (20, 100) := h.2.1 115 (by decide)
theorem T116 (h : lay σ) : mT σ 116 = (20, 100) := h.2.1 116 (by decide)
theorem T117 (h : lay σ) : mT σ 117 = (20, 6) := h.2.1 117 (by decide)
theorem T118 (h : lay σ) : mT σ 118 = (20, 6) := h.2.1 118 (by decide)
theorem T119 (h : lay σ) : mT σ 119 = (20, 6) := h.2.1 119 (by decide)
theorem T120 (h : lay σ) : mT σ 120 = (20, 6) := h.2.1 120 (by decide)
theorem T121 (h : lay σ) : mT σ 121 = (20, 1024) := h.2.1 121 (by decide)
theorem T122 (h : lay σ) : mT σ 122 = (20, 1024) := h.2.1 122 (by decide)
theorem P1_0 (h : lay σ) : mP σ 1 0 = 2 := (h.2.2 1 (by decide) 0 (by decide)).resolve_left (by decide)
theorem P1_1 (h : lay σ) : mP σ 1 1 = 3 := (h.2.2 1 (by decide) 1 (by decide)).resolve_left (by decide)
theorem P1_3 (h : lay σ) : mP σ 1 3 = 4 := (h.2.2 1 (by decide) 3 (by decide)).resolve_left (by decide)
theorem P1_4 (h : lay σ) : mP σ 1 4 = 5 := (h.2.2 1 (by decide) 4 (by decide)).resolve_left (by decide)
theorem P1_5 (h : lay σ) : mP σ 1 5 = 20 := (h.2.2 1 (by decide) 5 (by decide)).resolve_left (by decide)
theorem P1_6 (h : lay σ) : mP σ 1 6 = 35 := (h.2.2 1 (by decide) 6 (by decide)).resolve_left (by decide)
theorem P1_7 (h : lay σ) : mP σ 1 7 = 50 := (h.2.2 1 (by decide) 7 (by decide)).resolve_left (by decide)
theorem P1_12 (h : lay σ) : mP σ 1 12 = 55 := (h.2.2 1 (by decide) 12 (by decide)).resolve_left (by decide)
theorem P1_13 (h : lay σ) : mP σ 1 13 = 67 := (h.2.2 1 (by decide) 13 (by decide)).resolve_left (by decide)
theorem P1_14 (h : lay σ) : mP σ 1 14 = 68 := (h.2.2 1 (by decide) 14 (by decide)).resolve_left (by decide)
theorem P1_16 (h : lay σ) : mP σ 1 16 = 69 := (h.2.2 1 (by decide) 16 (by decide)).resolve_left (by decide)
theorem P1_17 (h : lay σ) : mP σ 1 17 = 80 := (h.2.2 1 (by decide) 17 (by decide)).resolve_left (by decide)
theorem P1_18 (h : lay σ) : mP σ 1 18 = 81 := (h.2.2 1 (by decide) 18 (by decide)).resolve_left (by decide)
theorem P1_19 (h : lay σ) : mP σ 1 19 = 82 := (h.2.2 1 (by decide) 19 (by decide)).resolve_left (by decide)
theorem P1_20 (h : lay σ) : mP σ 1 20 = 83 := (h.2.2 1 (by decide) 20 (by decide)).resolve_left (by decide)
theorem P1_21 (h : lay σ) : mP σ 1 21 = 84 := (h.2.2 1 (by decide) 21 (by decide)).resolve_left (by decide)
theorem P4_9 (h : lay σ) : mP σ 4 9 = 1 := (h.2.2 4 (by decide) 9 (by decide)).resolve_left (by decide)
theorem P5_0 (h : lay σ) : mP σ 5 0 = 6 := (h.2.2 5 (by decide) 0 (by decide)).resolve_left (by decide)
theorem P5_1 (h : lay σ) : mP σ 5 1 = 18 := (h.2.2 5 (by decide) 1 (by decide)).resolve_left (by decide)
theorem P5_2 (h : lay σ) : mP σ 5 2 = 19 := (h.2.2 5 (by decide) 2 (by decide)).resolve_left (by decide)
theorem P5_15 (h : lay σ) : mP σ 5 15 = 1 := (h.2.2 5 (by decide) 15 (by decide)).resolve_left (by decide)
theorem P6_0 (h : lay σ) : mP σ 6 0 = 7 := (h.2.2 6 (by decide) 0 (by decide)).resolve_left (by decide)
theorem P20_0 (h : lay σ) : mP σ 20 0 = 21 := (h.2.2 20 (by decide) 0 (by decide)).resolve_left (by decide)
theorem P20_1 (h : lay σ) : mP σ 20 1 = 33 := (h.2.2 20 (by decide) 1 (by decide)).resolve_left (by decide)
theorem P20_2 (h : lay σ) : mP σ 20 2 = 34 := (h.2.2 20 (by decide) 2 (by decide)).resolve_left (by decide)
theorem P20_15 (h : lay σ) : mP σ 20 15 = 1 := (h.2.2 20 (by decide) 15 (by decide)).resolve_left (by decide)
theorem P21_0 (h : lay σ) : mP σ 21 0 = 22 := (h.2.2 21 (by decide) 0 (by decide)).resolve_left (by decide)
theorem P35_0 (h : lay σ) : mP σ 35 0 = 36 := (h.2.2 35 (by decide) 0 (by decide)).resolve_left (by decide)
theorem P35_1 (h : lay σ) : mP σ 35 1 = 48 := (h.2.2 35 (by decide) 1 (by decide)).resolve_left (by decide)
theorem P35_2 (h : lay σ) : mP σ 35 2 = 49 := (h.2.2 35 (by decide) 2 (by decide)).resolve_left (by decide)
theorem P35_15 (h : lay σ) : mP σ 35 15 = 1 := (h.2.2 35 (by decide) 15 (by decide)).resolve_left (by decide)
theorem P36_0 (h : lay σ) : mP σ 36 0 = 37 := (h.2.2 36 (by decide) 0 (by decide)).resolve_left (by decide)
theorem P51_0 (h : lay σ) : mP σ 51 0 = 52 := (h.2.2 51 (by decide) 0 (by decide)).resolve_left (by decide)
theorem P51_1 (h : lay σ) : mP σ 51 1 = 53 := (h.2.2 51 (by decide) 1 (by decide)).resolve_left (by decide)
theorem P51_2 (h : lay σ) : mP σ 51 2 = 54 := (h.2.2 51 (by decide) 2 (by decide)).resolve_left (by decide)
theorem P55_0 (h : lay σ) : mP σ 55 0 = 56 := (h.2.2 55 (by decide) 0 (by decide)).resolve_left (by decide)
theorem P85_0 (h : lay σ) : mP σ 85 0 = 86 := (h.2.2 85 (by decide) 0 (by decide)).resolve_left (by decide)
theorem P85_1 (h : lay σ) : mP σ 85 1 = 87 := (h.2.2 85 (by decide) 1 (by decide)).resolve_left (by decide)
theorem P85_2 (h : lay σ) : mP σ 85 2 = 88 := (h.2.2 85 (by decide) 2 (by decide)).resolve_left (by decide)
theorem P85_3 (h : lay σ) : mP σ 85 3 = 89 := (h.2.2 85 (by decide) 3 (by decide)).resolve_left (by decide)
theorem P85_4 (h : lay σ) : mP σ 85 4 = 90 := (h.2.2 85 (by decide) 4 (by decide)).resolve_left (by decide)
theorem P85_6 (h : lay σ) : mP σ 85 6 = 91 := (h.2.2 85 (by decide) 6 (by decide)).resolve_left (by decide)
theorem P85_17 (h : lay σ) : mP σ 85 17 = 92 := (h.2.2 85 (by decide) 17 (by decide)).resolve_left (by decide)
theorem P85_18 (h : lay σ) : mP σ 85 18 = 93 := (h.2.2 85 (by decide) 18 (by decide)).resolve_left (by decide)
theorem P85_19 (h : lay σ) : mP σ 85 19 = 94 := (h.2.2 85 (by decide) 19 (by decide)).resolve_left (by decide)
theorem P85_20 (h : lay σ) : mP σ 85 20 = 95 := (h.2.2 85 (by decide) 20 (by decide)).resolve_left (by decide)
theorem P85_21 (h : lay σ) : mP σ 85 21 = 96 := (h.2.2 85 (by decide) 21 (by decide)).resolve_left (by decide)
theorem P85_22 (h : lay σ) : mP σ 85 22 = 97 := (h.2.2 85 (by decide) 22 (by decide)).resolve_left (by decide)
theorem P85_23 (h : lay σ) : mP σ 85 23 = 98 := (h.2.2 85 (by decide) 23 (by decide)).resolve_left (by decide)
theorem P85_24 (h : lay σ) : mP σ 85 24 = 99 := (h.2.2 85 (by decide) 24 (by decide)).resolve_left (by decide)
theorem P85_25 (h : lay σ) : mP σ 85 25 = 100 := (h.2.2 85 (by decide) 25 (by decide)).resolve_left (by decide)
theorem P85_26 (h : lay σ) : mP σ 85 26 = 101 := (h.2.2 85 (by decide) 26 (by decide)).resolve_left (by decide)
theorem P85_27 (h : lay σ) : mP σ 85 27 = 102 := (h.2.2 85 (by decide) 27 (by decide)).resolve_left (by decide)
theorem P85_28 (h : lay σ) : mP σ 85 28 = 103 := (h.2.2 85 (by decide) 28 (by decide)).resolve_left (by decide)
theorem P85_29 (h : lay σ) : mP σ 85 29 = 104 := (h.2.2 85 (by decide) 29 (by decide)).resolve_left (by decide)
theorem P85_30 (h : lay σ) : mP σ 85 30 = 105 := (h.2.2 85 (by decide) 30 (by decide)).resolve_left (by decide)
theorem P85_36 (h : lay σ) : mP σ 85 36 = 106 := (h.2.2 85 (by decide) 36 (by decide)).resolve_left (by decide)
theorem P85_37 (h : lay σ) : mP σ 85 37 = 107 := (h.2.2 85 (by decide) 37 (by decide)).resolve_left (by decide)
theorem P85_38 (h : lay σ) : mP σ 85 38 = 108 := (h.2.2 85 (by decide) 38 (by decide)).resolve_left (by decide)
theorem P85_39 (h : lay σ) : mP σ 85 39 = 109 := (h.2.2 85 (by decide) 39 (by decide)).resolve_left (by decide)
theorem P85_46 (h : lay σ) : mP σ 85 46 = 110 := (h.2.2 85 (by decide) 46 (by decide)).resolve_left (by decide)
theorem P85_47 (h : lay σ) : mP σ 85 47 = 111 := (h.2.2 85 (by decide) 47 (by decide)).resolve_left (by decide)
theorem P85_48 (h : lay σ) : mP σ 85 48 = 112 := (h.2.2 85 (by decide) 48 (by decide)).resolve_left (by decide)
theorem P85_49 (h : lay σ) : mP σ 85 49 = 113 := (h.2.2 85 (by decide) 49 (by decide)).resolve_left (by decide)
theorem P85_51 (h : lay σ) : mP σ 85 51 = 114 := (h.2.2 85 (by decide) 51 (by decide)).resolve_left (by decide)
theorem P85_52 (h : lay σ) : mP σ 85 52 = 115 := (h.2.2 85 (by decide) 52 (by decide)).resolve_left (by decide)
theorem P85_53 (h : lay σ) : mP σ 85 53 = 116 := (h.2.2 85 (by decide) 53 (by decide)).resolve_left (by decide)
theorem P85_54 (h : lay σ) : mP σ 85 54 = 117 := (h.2.2 85 (by decide) 54 (by decide)).resolve_left (by decide)
theorem P85_55 (h : lay σ) : mP σ 85 55 = 118 := (h.2.2 85 (by decide) 55 (by decide)).resolve_left (by decide)
theorem P85_56 (h : lay σ) : mP σ 85 56 = 119 := (h.2.2 85 (by decide) 56 (by decide)).resolve_left (by decide)
theorem P85_57 (h : lay σ) : mP σ 85 57 = 120 := (h.2.2 85 (by decide) 57 (by decide)).resolve_left (by decide)
theorem P85_59 (h : lay σ) : mP σ 85 59 = 121 := (h.2.2 85 (by decide) 59 (by decide)).resolve_left (by decide)
theorem P85_60 (h : lay σ) : mP σ 85 60 = 122 := (h.2.2 85 (by decide) 60 (by decide)).resolve_left (by decide)
theorem G7 {k : Nat} (h : lay σ) (hk : k < 10) : mP σ 7 k = 8 + k := by
  have e : mP σ 7 k = tP 7 k := (h.2.2 7 (by decide) k hk).resolve_left (fun q => absurd q.1 (by decide))
  rw [e]
  clear e h
  revert k
  decide
theorem R7 {k : Nat} (h : lay σ) (hk : k < 10) : mT σ (8 + k) = (20, 10) := by
  rw [h.2.1 (8 + k) (by omega)]
  clear h
  revert k
  decide
theorem G22 {k : Nat} (h : lay σ) (hk : k < 10) : mP σ 22 k = 23 + k := by
  have e : mP σ 22 k = tP 22 k := (h.2.2 22 (by decide) k hk).resolve_left (fun q => absurd q.1 (by decide))
  rw [e]
  clear e h
  revert k
  decide
theorem R22 {k : Nat} (h : lay σ) (hk : k < 10) : mT σ (23 + k) = (20, 10) := by
  rw [h.2.1 (23 + k) (by omega)]
  clear h
  revert k
  decide
theorem G37 {k : Nat} (h : lay σ) (hk : k < 10) : mP σ 37 k = 38 + k := by
  have e : mP σ 37 k = tP 37 k := (h.2.2 37 (by decide) k hk).resolve_left (fun q => absurd q.1 (by decide))
  rw [e]
  clear e h
  revert k
  decide
theorem R37 {k : Nat} (h : lay σ) (hk : k < 10) : mT σ (38 + k) = (20, 10) := by
  rw [h.2.1 (38 + k) (by omega)]
  clear h
  revert k
  decide
theorem G56 {k : Nat} (h : lay σ) (hk : k < 10) : mP σ 56 k = 57 + k := by
  have e : mP σ 56 k = tP 56 k := (h.2.2 56 (by decide) k hk).resolve_left (fun q => absurd q.1 (by decide))
  rw [e]
  clear e h
  revert k
  decide
theorem R56 {k : Nat} (h : lay σ) (hk : k < 10) : mT σ (57 + k) = (20, 10) := by
  rw [h.2.1 (57 + k) (by omega)]
  clear h
  revert k
  decide
theorem G69 {k : Nat} (h : lay σ) (hk : k < 10) : mP σ 69 k = 70 + k := by
  have e : mP σ 69 k = tP 69 k := (h.2.2 69 (by decide) k hk).resolve_left (fun q => absurd q.1 (by decide))
  rw [e]
  clear e h
  revert k
  decide
theorem R69 {k : Nat} (h : lay σ) (hk : k < 10) : mT σ (70 + k) = (20, 10) := by
  rw [h.2.1 (70 + k) (by omega)]
  clear h
  revert k
  decide
end LAY
theorem mT_nO (σ : MM) (t : Nat × Nat) (a : Nat) : mT (nO σ t) a = if a = mN σ + 1 then t else mT σ a := rfl
theorem mP_nO (σ : MM) (t : Nat × Nat) (a : Nat) (j : Nat) : mP (nO σ t) a j = if a = mN σ + 1 then 0 else mP σ a j := rfl
theorem mI_nO (σ : MM) (t : Nat × Nat) (a : Nat) (j : Nat) : mI (nO σ t) a j = if a = mN σ + 1 then 0 else mI σ a j := rfl
theorem mN_nO (σ : MM) (t : Nat × Nat) : mN (nO σ t) = mN σ + 1 := rfl
theorem mN_wI (σ : MM) (a j : Nat) (v : Int32) : mN (wI σ a j v) = mN σ := rfl
theorem mN_wP (σ : MM) (a j u : Nat) : mN (wP σ a j u) = mN σ := rfl
theorem lay_wI {σ : MM} {a j : Nat} {v : Int32} (h : lay σ) : lay (wI σ a j v) := h
/-- the operations, where the kind is known -/
theorem gI_T {σ : MM} {a tg n j : Nat} (h : mT σ a = (tg, n)) : gI σ a tg n j = some (mI σ a j) := if_pos h
theorem gP_T {σ : MM} {a tg n j : Nat} (h : mT σ a = (tg, n)) : gP σ a tg n j = some (mP σ a j) := if_pos h
theorem pI_T {σ : MM} {a tg n j : Nat} {v : Int32} (h : mT σ a = (tg, n)) : pI σ a tg n j v = some (wI σ a j v) := if_pos h
theorem pP_T {σ : MM} {a tg n j u : Nat} (h : mT σ a = (tg, n)) : pP σ a tg n j u = some (wP σ a j u) := if_pos h
theorem pZ_T {σ : MM} {a tg n j : Nat} {v : Int32} (h : mT σ a = (tg, n)) (hv : v = 0 ∨ v = 1) : pZ σ a tg n j v = some (wI σ a j v) := if_pos ⟨h, hv⟩
theorem aI_T {σ : MM} {a tg k : Nat} (h : (mT σ a).1 = tg) (hk : k < (mT σ a).2) (hn : (mT σ a).2 < 2147483648) : aI σ a tg (nI k) = some (mI σ a k) := by
  unfold aI
  rw [if_pos ⟨h, ix_nI hk hn⟩, nI_clamp (Nat.lt_trans hk hn)]
theorem aP_T {σ : MM} {a tg k : Nat} (h : (mT σ a).1 = tg) (hk : k < (mT σ a).2) (hn : (mT σ a).2 < 2147483648) : aP σ a tg (nI k) = some (mP σ a k) := by
  unfold aP
  rw [if_pos ⟨h, ix_nI hk hn⟩, nI_clamp (Nat.lt_trans hk hn)]
theorem sI_T {σ : MM} {a k : Nat} {v : Int32} (h : (mT σ a).1 = 20) (hk : k < (mT σ a).2) (hn : (mT σ a).2 < 2147483648) : sI σ a (nI k) v = some (wI σ a k v) := by
  unfold sI
  rw [if_pos ⟨h, ix_nI hk hn⟩, nI_clamp (Nat.lt_trans hk hn)]
theorem sB_T {σ : MM} {a k : Nat} {v : Int32} (h : (mT σ a).1 = 21) (hk : k < (mT σ a).2) (hn : (mT σ a).2 < 2147483648) : sB σ a (nI k) v = some (wI σ a k (vp_nar .byte v)) := by
  unfold sB
  rw [if_pos ⟨h, ix_nI hk hn⟩, nI_clamp (Nat.lt_trans hk hn)]
theorem jn_eq {κ ρ : Type} {k : κ} {b : κ → Option ρ} : jn k b = b k := rfl
theorem nw_eq {α : Type} {σ : MM} {t : Nat × Nat} {f : Nat → MM → Option α} : nw σ t f = f (mN σ + 1) (nO σ t) := rfl
/-- ints of other cells -/
theorem mI_wn {σ : MM} {a j x : Nat} {v : Int32} (h : x ≠ a) : mI (wI σ a j v) x = mI σ x := by
  funext y
  rw [mI_wI, if_neg (fun q => h q.1)]
theorem mI_wy {σ : MM} {a j x y : Nat} {v : Int32} (h : y ≠ j) : mI (wI σ a j v) x y = mI σ x y := by
  rw [mI_wI, if_neg (fun q => h q.2)]
theorem mI_ws {σ : MM} {a j : Nat} {v : Int32} : mI (wI σ a j v) a j = v := by
  rw [mI_wI, if_pos ⟨rfl, rfl⟩]
