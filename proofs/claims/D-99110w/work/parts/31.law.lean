set_option maxRecDepth 100000
theorem xcl_X0 : xCl 0 22 RX0 := classCl _ rfl rfl rfl (by decide) in_X0 tyX0_ok (by decide +kernel)
theorem yd_X0_init : xYd yX0_init 0 := ⟨by decide +kernel, by decide +kernel, by decide +kernel⟩
theorem cs_L_9_X0_init : xCI RL 9 yX0_init cX0_init 1 0 := ⟨by decide, rfl, yd_X0_init, lw_meth q146, q116, q145, Or.inl q144⟩
theorem xcl_X6 : xCl 5 62 RX6 := classCl _ rfl rfl rfl (by decide) in_X6 tyX6_ok (by decide +kernel)
theorem yd_X6_init : xYd yX6_init 0 := ⟨by decide +kernel, by decide +kernel, by decide +kernel⟩
theorem cs_L_12_X6_init : xCI RL 12 yX6_init cX6_init 1 0 := ⟨by decide, rfl, yd_X6_init, lw_meth q1262, q122, q1261, Or.inl q1260⟩
theorem yd_X0_person : xYd yX0_person 3 := ⟨by decide +kernel, by decide +kernel, by decide +kernel⟩
theorem cs_L_13_X0_person : xCV RL 13 yX0_person cX0_person 4 (some .boolean) 0 22 3 := ⟨by decide, by decide, _, rfl, yd_X0_person, Or.inl ⟨rfl, lw_V q382 q383 q384 q116 q385⟩⟩
theorem yd_X6_person : xYd yX6_person 3 := ⟨by decide +kernel, by decide +kernel, by decide +kernel⟩
theorem cs_L_17_X6_person : xCV RL 17 yX6_person cX6_person 4 (some .boolean) 5 62 3 := ⟨by decide, by decide, _, rfl, yd_X6_person, Or.inl ⟨rfl, lw_V q1452 q1453 q1454 q122 q1455⟩⟩
theorem yd_X0_debt : xYd yX0_debt 3 := ⟨by decide +kernel, by decide +kernel, by decide +kernel⟩
theorem cs_L_18_X0_debt : xCV RL 18 yX0_debt cX0_debt 4 (some .boolean) 0 22 3 := ⟨by decide, by decide, _, rfl, yd_X0_debt, Or.inl ⟨rfl, lw_V q389 q390 q391 q116 q392⟩⟩
theorem yd_X6_debt : xYd yX6_debt 3 := ⟨by decide +kernel, by decide +kernel, by decide +kernel⟩
theorem cs_L_21_X6_debt : xCV RL 21 yX6_debt cX6_debt 4 (some .boolean) 5 62 3 := ⟨by decide, by decide, _, rfl, yd_X6_debt, Or.inl ⟨rfl, lw_V q1459 q1460 q1461 q122 q1462⟩⟩
theorem yd_X0_coin : xYd yX0_coin 1 := ⟨by decide +kernel, by decide +kernel, by decide +kernel⟩
theorem cs_L_22_X0_coin : xCV RL 22 yX0_coin cX0_coin 2 (some .boolean) 0 22 1 := ⟨by decide, by decide, _, rfl, yd_X0_coin, Or.inl ⟨rfl, lw_V q403 q404 q405 q116 q406⟩⟩
theorem yd_X6_coin : xYd yX6_coin 1 := ⟨by decide +kernel, by decide +kernel, by decide +kernel⟩
theorem cs_L_26_X6_coin : xCV RL 26 yX6_coin cX6_coin 2 (some .boolean) 5 62 1 := ⟨by decide, by decide, _, rfl, yd_X6_coin, Or.inl ⟨rfl, lw_V q1474 q1475 q1476 q122 q1477⟩⟩
theorem yd_X0_feed : xYd yX0_feed 5 := ⟨by decide +kernel, by decide +kernel, by decide +kernel⟩
theorem cs_L_27_X0_feed : xCV RL 27 yX0_feed cX0_feed 6 (some .int) 0 22 5 := ⟨by decide, by decide, _, rfl, yd_X0_feed, Or.inl ⟨rfl, lw_V q407 q408 q409 q116 q410⟩⟩
theorem yd_X6_feed : xYd yX6_feed 5 := ⟨by decide +kernel, by decide +kernel, by decide +kernel⟩
theorem cs_L_31_X6_feed : xCV RL 31 yX6_feed cX6_feed 6 (some .int) 5 62 5 := ⟨by decide, by decide, _, rfl, yd_X6_feed, Or.inl ⟨rfl, lw_V q1482 q1483 q1484 q122 q1485⟩⟩
theorem yd_X0_law : xYd yX0_law 1 := ⟨by decide +kernel, by decide +kernel, by decide +kernel⟩
theorem cs_L_32_X0_law : xCV RL 32 yX0_law cX0_law 4 (some .int) 0 22 1 := ⟨by decide, by decide, _, rfl, yd_X0_law, Or.inl ⟨rfl, lw_V q415 q416 q417 q116 q418⟩⟩
theorem yd_X6_law : xYd yX6_law 1 := ⟨by decide +kernel, by decide +kernel, by decide +kernel⟩
theorem cs_L_36_X6_law : xCV RL 36 yX6_law cX6_law 4 (some .int) 5 62 1 := ⟨by decide, by decide, _, rfl, yd_X6_law, Or.inl ⟨rfl, lw_V q1490 q1491 q1492 q122 q1493⟩⟩
theorem yd_X0_debts : xYd yX0_debts 1 := ⟨by decide +kernel, by decide +kernel, by decide +kernel⟩
theorem cs_L_37_X0_debts : xCV RL 37 yX0_debts cX0_debts 5 (some .int) 0 22 1 := ⟨by decide, by decide, _, rfl, yd_X0_debts, Or.inl ⟨rfl, lw_V q684 q685 q686 q116 q687⟩⟩
theorem yd_X6_debts : xYd yX6_debts 1 := ⟨by decide +kernel, by decide +kernel, by decide +kernel⟩
theorem cs_L_40_X6_debts : xCV RL 40 yX6_debts cX6_debts 4 (some .int) 5 62 1 := ⟨by decide, by decide, _, rfl, yd_X6_debts, Or.inl ⟨rfl, lw_V q1573 q1574 q1575 q122 q1576⟩⟩
theorem yd_X0_hours : xYd yX0_hours 1 := ⟨by decide +kernel, by decide +kernel, by decide +kernel⟩
theorem cs_L_41_X0_hours : xCV RL 41 yX0_hours cX0_hours 2 (some .int) 0 22 1 := ⟨by decide, by decide, _, rfl, yd_X0_hours, Or.inl ⟨rfl, lw_V q920 q921 q922 q116 q923⟩⟩
theorem yd_X6_hours : xYd yX6_hours 1 := ⟨by decide +kernel, by decide +kernel, by decide +kernel⟩
theorem cs_L_44_X6_hours : xCV RL 44 yX6_hours cX6_hours 2 (some .int) 5 62 1 := ⟨by decide, by decide, _, rfl, yd_X6_hours, Or.inl ⟨rfl, lw_V q1600 q1601 q1602 q122 q1603⟩⟩
theorem yd_X0_tried : xYd yX0_tried 2 := ⟨by decide +kernel, by decide +kernel, by decide +kernel⟩
theorem cs_L_45_X0_tried : xCV RL 45 yX0_tried cX0_tried 3 (some .int) 0 22 2 := ⟨by decide, by decide, _, rfl, yd_X0_tried, Or.inl ⟨rfl, lw_V q1054 q1055 q1056 q116 q1057⟩⟩
theorem yd_X6_tried : xYd yX6_tried 2 := ⟨by decide +kernel, by decide +kernel, by decide +kernel⟩
theorem cs_L_49_X6_tried : xCV RL 49 yX6_tried cX6_tried 4 (some .int) 5 62 2 := ⟨by decide, by decide, _, rfl, yd_X6_tried, Or.inl ⟨rfl, lw_V q1686 q1687 q1688 q122 q1689⟩⟩
theorem yd_X0_personIs : xYd yX0_personIs 2 := ⟨by decide +kernel, by decide +kernel, by decide +kernel⟩
theorem cs_L_50_X0_personIs : xCV RL 50 yX0_personIs cX0_personIs 3 (some .int) 0 22 2 := ⟨by decide, by decide, _, rfl, yd_X0_personIs, Or.inl ⟨rfl, lw_V q1059 q1060 q1061 q116 q1062⟩⟩
theorem yd_X6_personIs : xYd yX6_personIs 2 := ⟨by decide +kernel, by decide +kernel, by decide +kernel⟩
theorem cs_L_53_X6_personIs : xCV RL 53 yX6_personIs cX6_personIs 3 (some .int) 5 62 2 := ⟨by decide, by decide, _, rfl, yd_X6_personIs, Or.inl ⟨rfl, lw_V q1693 q1694 q1695 q122 q1696⟩⟩
theorem yd_X0_owes : xYd yX0_owes 2 := ⟨by decide +kernel, by decide +kernel, by decide +kernel⟩
theorem cs_L_54_X0_owes : xCV RL 54 yX0_owes cX0_owes 3 (some .int) 0 22 2 := ⟨by decide, by decide, _, rfl, yd_X0_owes, Or.inl ⟨rfl, lw_V q1069 q1070 q1071 q116 q1072⟩⟩
theorem yd_X6_owes : xYd yX6_owes 2 := ⟨by decide +kernel, by decide +kernel, by decide +kernel⟩
theorem cs_L_57_X6_owes : xCV RL 57 yX6_owes cX6_owes 3 (some .int) 5 62 2 := ⟨by decide, by decide, _, rfl, yd_X6_owes, Or.inl ⟨rfl, lw_V q1701 q1702 q1703 q122 q1704⟩⟩
theorem yd_X0_likes : xYd yX0_likes 2 := ⟨by decide +kernel, by decide +kernel, by decide +kernel⟩
theorem cs_L_58_X0_likes : xCV RL 58 yX0_likes cX0_likes 3 (some .int) 0 22 2 := ⟨by decide, by decide, _, rfl, yd_X0_likes, Or.inl ⟨rfl, lw_V q1077 q1078 q1079 q116 q1080⟩⟩
theorem yd_X6_likes : xYd yX6_likes 2 := ⟨by decide +kernel, by decide +kernel, by decide +kernel⟩
theorem cs_L_61_X6_likes : xCV RL 61 yX6_likes cX6_likes 3 (some .int) 5 62 2 := ⟨by decide, by decide, _, rfl, yd_X6_likes, Or.inl ⟨rfl, lw_V q1705 q1706 q1707 q122 q1708⟩⟩
theorem yd_X0_route : xYd yX0_route 2 := ⟨by decide +kernel, by decide +kernel, by decide +kernel⟩
theorem cs_L_62_X0_route : xCV RL 62 yX0_route cX0_route 6 (some .int) 0 22 2 := ⟨by decide, by decide, _, rfl, yd_X0_route, Or.inl ⟨rfl, lw_V q818 q819 q820 q116 q821⟩⟩
theorem yd_X6_route : xYd yX6_route 2 := ⟨by decide +kernel, by decide +kernel, by decide +kernel⟩
theorem cs_L_65_X6_route : xCV RL 65 yX6_route cX6_route 5 (some .int) 5 62 2 := ⟨by decide, by decide, _, rfl, yd_X6_route, Or.inl ⟨rfl, lw_V q1709 q1710 q1711 q122 q1712⟩⟩
theorem yd_X0_walk : xYd yX0_walk 1 := ⟨by decide +kernel, by decide +kernel, by decide +kernel⟩
theorem cs_L_66_X0_walk : xCV RL 66 yX0_walk cX0_walk 4 (some .int) 0 22 1 := ⟨by decide, by decide, _, rfl, yd_X0_walk, Or.inl ⟨rfl, lw_V q916 q917 q918 q116 q919⟩⟩
theorem yd_X6_walk : xYd yX6_walk 1 := ⟨by decide +kernel, by decide +kernel, by decide +kernel⟩
theorem cs_L_69_X6_walk : xCV RL 69 yX6_walk cX6_walk 3 (some .int) 5 62 1 := ⟨by decide, by decide, _, rfl, yd_X6_walk, Or.inl ⟨rfl, lw_V q1733 q1734 q1735 q122 q1736⟩⟩
theorem yd_X0_tour : xYd yX0_tour 1 := ⟨by decide +kernel, by decide +kernel, by decide +kernel⟩
theorem cs_L_70_X0_tour : xCV RL 70 yX0_tour cX0_tour 5 (some .int) 0 22 1 := ⟨by decide, by decide, _, rfl, yd_X0_tour, Or.inl ⟨rfl, lw_V q1082 q1083 q1084 q116 q1085⟩⟩
theorem yd_X6_tour : xYd yX6_tour 1 := ⟨by decide +kernel, by decide +kernel, by decide +kernel⟩
theorem cs_L_73_X6_tour : xCV RL 73 yX6_tour cX6_tour 4 (some .int) 5 62 1 := ⟨by decide, by decide, _, rfl, yd_X6_tour, Or.inl ⟨rfl, lw_V q1737 q1738 q1739 q122 q1740⟩⟩
theorem yd_X0_most : xYd yX0_most 1 := ⟨by decide +kernel, by decide +kernel, by decide +kernel⟩
theorem cs_L_74_X0_most : xCV RL 74 yX0_most cX0_most 2 (some .int) 0 22 1 := ⟨by decide, by decide, _, rfl, yd_X0_most, Or.inl ⟨rfl, lw_V q1109 q1110 q1111 q116 q1112⟩⟩
theorem yd_X6_most : xYd yX6_most 1 := ⟨by decide +kernel, by decide +kernel, by decide +kernel⟩
theorem cs_L_77_X6_most : xCV RL 77 yX6_most cX6_most 6 (some .int) 5 62 1 := ⟨by decide, by decide, _, rfl, yd_X6_most, Or.inl ⟨rfl, lw_V q1761 q1762 q1763 q122 q1764⟩⟩
theorem yd_X0_back : xYd yX0_back 2 := ⟨by decide +kernel, by decide +kernel, by decide +kernel⟩
theorem cs_L_78_X0_back : xCV RL 78 yX0_back cX0_back 3 (some .int) 0 22 2 := ⟨by decide, by decide, _, rfl, yd_X0_back, Or.inl ⟨rfl, lw_V q1117 q1118 q1119 q116 q1120⟩⟩
theorem yd_X6_back : xYd yX6_back 2 := ⟨by decide +kernel, by decide +kernel, by decide +kernel⟩
theorem cs_L_81_X6_back : xCV RL 81 yX6_back cX6_back 4 (some .int) 5 62 2 := ⟨by decide, by decide, _, rfl, yd_X6_back, Or.inl ⟨rfl, lw_V q1777 q1778 q1779 q122 q1780⟩⟩
theorem yd_X0_even : xYd yX0_even 1 := ⟨by decide +kernel, by decide +kernel, by decide +kernel⟩
theorem cs_L_82_X0_even : xCV RL 82 yX0_even cX0_even 3 (some .int) 0 22 1 := ⟨by decide, by decide, _, rfl, yd_X0_even, Or.inl ⟨rfl, lw_V q1126 q1127 q1128 q116 q1129⟩⟩
theorem yd_X6_even : xYd yX6_even 1 := ⟨by decide +kernel, by decide +kernel, by decide +kernel⟩
theorem cs_L_85_X6_even : xCV RL 85 yX6_even cX6_even 6 (some .int) 5 62 1 := ⟨by decide, by decide, _, rfl, yd_X6_even, Or.inl ⟨rfl, lw_V q1786 q1787 q1788 q122 q1789⟩⟩
theorem yd_X0_turned : xYd yX0_turned 1 := ⟨by decide +kernel, by decide +kernel, by decide +kernel⟩
theorem cs_L_86_X0_turned : xCV RL 86 yX0_turned cX0_turned 5 (some .int) 0 22 1 := ⟨by decide, by decide, _, rfl, yd_X0_turned, Or.inl ⟨rfl, lw_V q1146 q1147 q1148 q116 q1149⟩⟩
theorem yd_X6_turned : xYd yX6_turned 1 := ⟨by decide +kernel, by decide +kernel, by decide +kernel⟩
theorem cs_L_89_X6_turned : xCV RL 89 yX6_turned cX6_turned 4 (some .int) 5 62 1 := ⟨by decide, by decide, _, rfl, yd_X6_turned, Or.inl ⟨rfl, lw_V q1806 q1807 q1808 q122 q1809⟩⟩
theorem yd_X0_setOff : xYd yX0_setOff 1 := ⟨by decide +kernel, by decide +kernel, by decide +kernel⟩
theorem cs_L_90_X0_setOff : xCV RL 90 yX0_setOff cX0_setOff 2 (some .int) 0 22 1 := ⟨by decide, by decide, _, rfl, yd_X0_setOff, Or.inl ⟨rfl, lw_V q1164 q1165 q1166 q116 q1167⟩⟩
theorem yd_X6_setOff : xYd yX6_setOff 1 := ⟨by decide +kernel, by decide +kernel, by decide +kernel⟩
theorem cs_L_93_X6_setOff : xCV RL 93 yX6_setOff cX6_setOff 2 (some .int) 5 62 1 := ⟨by decide, by decide, _, rfl, yd_X6_setOff, Or.inl ⟨rfl, lw_V q1817 q1818 q1819 q122 q1820⟩⟩
theorem yd_X0_fewest : xYd yX0_fewest 0 := ⟨by decide +kernel, by decide +kernel, by decide +kernel⟩
theorem cs_L_94_X0_fewest : xCV RL 94 yX0_fewest cX0_fewest 5 (some .int) 0 22 0 := ⟨by decide, by decide, _, rfl, yd_X0_fewest, Or.inl ⟨rfl, lw_V q1169 q1170 q1171 q116 q1172⟩⟩
theorem yd_X6_fewest : xYd yX6_fewest 0 := ⟨by decide +kernel, by decide +kernel, by decide +kernel⟩
theorem cs_L_98_X6_fewest : xCV RL 98 yX6_fewest cX6_fewest 3 (some .int) 5 62 0 := ⟨by decide, by decide, _, rfl, yd_X6_fewest, Or.inl ⟨rfl, lw_V q1822 q1823 q1824 q122 q1825⟩⟩
theorem yd_X0_rings : xYd yX0_rings 1 := ⟨by decide +kernel, by decide +kernel, by decide +kernel⟩
theorem cs_L_99_X0_rings : xCV RL 99 yX0_rings cX0_rings 4 (some .int) 0 22 1 := ⟨by decide, by decide, _, rfl, yd_X0_rings, Or.inl ⟨rfl, lw_V q1177 q1178 q1179 q116 q1180⟩⟩
theorem yd_X6_rings : xYd yX6_rings 1 := ⟨by decide +kernel, by decide +kernel, by decide +kernel⟩
theorem cs_L_102_X6_rings : xCV RL 102 yX6_rings cX6_rings 5 (some .int) 5 62 1 := ⟨by decide, by decide, _, rfl, yd_X6_rings, Or.inl ⟨rfl, lw_V q1830 q1831 q1832 q122 q1833⟩⟩
theorem yd_X0_off : xYd yX0_off 0 := ⟨by decide +kernel, by decide +kernel, by decide +kernel⟩
theorem cs_L_103_X0_off : xCV RL 103 yX0_off cX0_off 1 (some .int) 0 22 0 := ⟨by decide, by decide, _, rfl, yd_X0_off, Or.inl ⟨rfl, lw_V q1190 q1191 q1192 q116 q1193⟩⟩
theorem yd_X6_off : xYd yX6_off 0 := ⟨by decide +kernel, by decide +kernel, by decide +kernel⟩
theorem cs_L_106_X6_off : xCV RL 106 yX6_off cX6_off 1 (some .int) 5 62 0 := ⟨by decide, by decide, _, rfl, yd_X6_off, Or.inl ⟨rfl, lw_V q1842 q1843 q1844 q122 q1845⟩⟩
theorem yd_X0_when : xYd yX0_when 2 := ⟨by decide +kernel, by decide +kernel, by decide +kernel⟩
theorem cs_L_107_X0_when : xCV RL 107 yX0_when cX0_when 4 (some .int) 0 22 2 := ⟨by decide, by decide, _, rfl, yd_X0_when, Or.inl ⟨rfl, lw_V q1194 q1195 q1196 q116 q1197⟩⟩
theorem yd_X6_when : xYd yX6_when 2 := ⟨by decide +kernel, by decide +kernel, by decide +kernel⟩
theorem cs_L_110_X6_when : xCV RL 110 yX6_when cX6_when 5 (some .int) 5 62 2 := ⟨by decide, by decide, _, rfl, yd_X6_when, Or.inl ⟨rfl, lw_V q1846 q1847 q1848 q122 q1849⟩⟩
theorem yd_X0_wedding : xYd yX0_wedding 3 := ⟨by decide +kernel, by decide +kernel, by decide +kernel⟩
theorem cs_L_111_X0_wedding : xCV RL 111 yX0_wedding cX0_wedding 9 (some .int) 0 22 3 := ⟨by decide, by decide, _, rfl, yd_X0_wedding, Or.inl ⟨rfl, lw_V q1200 q1201 q1202 q116 q1203⟩⟩
theorem yd_X6_wedding : xYd yX6_wedding 3 := ⟨by decide +kernel, by decide +kernel, by decide +kernel⟩
theorem cs_L_115_X6_wedding : xCV RL 115 yX6_wedding cX6_wedding 8 (some .int) 5 62 3 := ⟨by decide, by decide, _, rfl, yd_X6_wedding, Or.inl ⟨rfl, lw_V q1850 q1851 q1852 q122 q1853⟩⟩
theorem yd_X0_longest_2 : xYd yX0_longest_2 0 := ⟨by decide +kernel, by decide +kernel, by decide +kernel⟩
theorem cs_L_116_X0_longest_2 : xCV RL 116 yX0_longest_2 cX0_longest_2 4 (some .int) 0 22 0 := ⟨by decide, by decide, _, rfl, yd_X0_longest_2, Or.inl ⟨rfl, lw_V q1204 q1205 q1206 q116 q1207⟩⟩
theorem yd_X6_longest : xYd yX6_longest 0 := ⟨by decide +kernel, by decide +kernel, by decide +kernel⟩
theorem cs_L_119_X6_longest : xCV RL 119 yX6_longest cX6_longest 4 (some .int) 5 62 0 := ⟨by decide, by decide, _, rfl, yd_X6_longest, Or.inl ⟨rfl, lw_V q1854 q1855 q1856 q122 q1857⟩⟩
theorem yd_X0_chalk : xYd yX0_chalk 1 := ⟨by decide +kernel, by decide +kernel, by decide +kernel⟩
theorem cs_L_120_X0_chalk : xCV RL 120 yX0_chalk cX0_chalk 2 (some .int) 0 22 1 := ⟨by decide, by decide, _, rfl, yd_X0_chalk, Or.inl ⟨rfl, lw_V q1208 q1209 q1210 q116 q1211⟩⟩
theorem yd_X6_chalk : xYd yX6_chalk 1 := ⟨by decide +kernel, by decide +kernel, by decide +kernel⟩
theorem cs_L_123_X6_chalk : xCV RL 123 yX6_chalk cX6_chalk 2 (some .int) 5 62 1 := ⟨by decide, by decide, _, rfl, yd_X6_chalk, Or.inl ⟨rfl, lw_V q1858 q1859 q1860 q122 q1861⟩⟩
theorem yd_X0_two : xYd yX0_two 1 := ⟨by decide +kernel, by decide +kernel, by decide +kernel⟩
theorem cs_L_124_X0_two : xCV RL 124 yX0_two cX0_two 6 (some .int) 0 22 1 := ⟨by decide, by decide, _, rfl, yd_X0_two, Or.inl ⟨rfl, lw_V q1217 q1218 q1219 q116 q1220⟩⟩
theorem yd_X6_two : xYd yX6_two 1 := ⟨by decide +kernel, by decide +kernel, by decide +kernel⟩
theorem cs_L_127_X6_two : xCV RL 127 yX6_two cX6_two 6 (some .int) 5 62 1 := ⟨by decide, by decide, _, rfl, yd_X6_two, Or.inl ⟨rfl, lw_V q1862 q1863 q1864 q122 q1865⟩⟩
theorem yd_X0_dry : xYd yX0_dry 2 := ⟨by decide +kernel, by decide +kernel, by decide +kernel⟩
theorem cs_L_128_X0_dry : xCV RL 128 yX0_dry cX0_dry 7 (some .int) 0 22 2 := ⟨by decide, by decide, _, rfl, yd_X0_dry, Or.inl ⟨rfl, lw_V q1229 q1230 q1231 q116 q1232⟩⟩
theorem yd_X6_dry : xYd yX6_dry 2 := ⟨by decide +kernel, by decide +kernel, by decide +kernel⟩
theorem cs_L_131_X6_dry : xCV RL 131 yX6_dry cX6_dry 7 (some .int) 5 62 2 := ⟨by decide, by decide, _, rfl, yd_X6_dry, Or.inl ⟨rfl, lw_V q1874 q1875 q1876 q122 q1877⟩⟩
theorem yd_X0_seed : xYd yX0_seed 1 := ⟨by decide +kernel, by decide +kernel, by decide +kernel⟩
theorem cs_L_132_X0_seed : xCV RL 132 yX0_seed cX0_seed 2 (some .boolean) 0 22 1 := ⟨by decide, by decide, _, rfl, yd_X0_seed, Or.inl ⟨rfl, lw_V q1237 q1238 q1239 q116 q1240⟩⟩
theorem yd_X6_seed : xYd yX6_seed 1 := ⟨by decide +kernel, by decide +kernel, by decide +kernel⟩
theorem cs_L_135_X6_seed : xCV RL 135 yX6_seed cX6_seed 2 (some .boolean) 5 62 1 := ⟨by decide, by decide, _, rfl, yd_X6_seed, Or.inl ⟨rfl, lw_V q1881 q1882 q1883 q122 q1884⟩⟩
theorem yd_X0_keep : xYd yX0_keep 0 := ⟨by decide +kernel, by decide +kernel, by decide +kernel⟩
theorem cs_L_136_X0_keep : xCV RL 136 yX0_keep cX0_keep 1 (some .int) 0 22 0 := ⟨by decide, by decide, _, rfl, yd_X0_keep, Or.inl ⟨rfl, lw_V q1242 q1243 q1244 q116 q1245⟩⟩
theorem yd_X6_keep : xYd yX6_keep 0 := ⟨by decide +kernel, by decide +kernel, by decide +kernel⟩
theorem cs_L_139_X6_keep : xCV RL 139 yX6_keep cX6_keep 1 (some .int) 5 62 0 := ⟨by decide, by decide, _, rfl, yd_X6_keep, Or.inl ⟨rfl, lw_V q1886 q1887 q1888 q122 q1889⟩⟩
theorem yd_X0_undo : xYd yX0_undo 0 := ⟨by decide +kernel, by decide +kernel, by decide +kernel⟩
theorem cs_L_140_X0_undo : xCV RL 140 yX0_undo cX0_undo 1 (some .boolean) 0 22 0 := ⟨by decide, by decide, _, rfl, yd_X0_undo, Or.inl ⟨rfl, lw_V q1246 q1247 q1248 q116 q1249⟩⟩
theorem yd_X6_undo : xYd yX6_undo 0 := ⟨by decide +kernel, by decide +kernel, by decide +kernel⟩
theorem cs_L_144_X6_undo : xCV RL 144 yX6_undo cX6_undo 1 (some .boolean) 5 62 0 := ⟨by decide, by decide, _, rfl, yd_X6_undo, Or.inl ⟨rfl, lw_V q1890 q1891 q1892 q122 q1893⟩⟩
theorem yd_X0_check : xYd yX0_check 1 := ⟨by decide +kernel, by decide +kernel, by decide +kernel⟩
theorem cs_L_145_X0_check : xCV RL 145 yX0_check cX0_check 3 (some .int) 0 22 1 := ⟨by decide, by decide, _, rfl, yd_X0_check, Or.inl ⟨rfl, lw_V q1250 q1251 q1252 q116 q1253⟩⟩
theorem yd_X6_check : xYd yX6_check 1 := ⟨by decide +kernel, by decide +kernel, by decide +kernel⟩
theorem cs_L_148_X6_check : xCV RL 148 yX6_check cX6_check 3 (some .int) 5 62 1 := ⟨by decide, by decide, _, rfl, yd_X6_check, Or.inl ⟨rfl, lw_V q1894 q1895 q1896 q122 q1897⟩⟩
theorem yd_X0_count : xYd yX0_count 1 := ⟨by decide +kernel, by decide +kernel, by decide +kernel⟩
theorem cs_L_149_X0_count : xCV RL 149 yX0_count cX0_count 2 (some .int) 0 22 1 := ⟨by decide, by decide, _, rfl, yd_X0_count, Or.inl ⟨rfl, lw_V q1254 q1255 q1256 q116 q1257⟩⟩
theorem yd_X6_count : xYd yX6_count 1 := ⟨by decide +kernel, by decide +kernel, by decide +kernel⟩
theorem cs_L_152_X6_count : xCV RL 152 yX6_count cX6_count 2 (some .int) 5 62 1 := ⟨by decide, by decide, _, rfl, yd_X6_count, Or.inl ⟨rfl, lw_V q1898 q1899 q1900 q122 q1901⟩⟩
def l_L_law_18 (L : Nat) (xs : Nat → Int32) (K : MM → Nat → Nat → Option (Int32 × MM × Nat × Nat)) (F : Nat) (a1 : Nat) (a2 : Nat) : Nat → Int32 → MM → Nat → Nat → Option (Int32 × MM × Nat × Nat)
  | 0, _, _, _, _ => none
  | f + 1, z3, σ, k, n => if ((nI L) - 6) < z3 then (K σ k n) else ((aS L xs z3).bind fun v7 => jn (fun  (σ8 : MM) (c10 e11 : Nat) => l_L_law_18 L xs K F a1 a2 f ((z3 + 6)) σ8 c10 e11) (fun k9 => if (v7 &&& 63) = 0 then ((aS L xs ((z3 + 1))).bind fun v12 => (aS L xs ((z3 + 2))).bind fun v13 => (aS L xs ((z3 + 3))).bind fun v14 => bq (g_X0_person F σ a1 v12 v13 v14) fun v16 σ15 => (aS L xs ((z3 + 1))).bind fun v17 => (aS L xs ((z3 + 2))).bind fun v18 => (aS L xs ((z3 + 3))).bind fun v19 => bq (g_X6_person F σ15 a2 v17 v18 v19) fun v21 σ20 => if v16 = v21 then (k9 σ20 k n) else (some (0, σ20, k, n))) else if (v7 &&& 63) = 1 then ((aS L xs ((z3 + 1))).bind fun v22 => (aS L xs ((z3 + 2))).bind fun v23 => (aS L xs ((z3 + 3))).bind fun v24 => bq (g_X0_debt F σ a1 v22 v23 v24) fun v26 σ25 => (aS L xs ((z3 + 1))).bind fun v27 => (aS L xs ((z3 + 2))).bind fun v28 => (aS L xs ((z3 + 3))).bind fun v29 => bq (g_X6_debt F σ25 a2 v27 v28 v29) fun v31 σ30 => if v26 = v31 then (k9 σ30 k n) else (some (0, σ30, k, n))) else if (v7 &&& 63) = 2 then ((aS L xs ((z3 + 1))).bind fun v32 => bq (g_X0_coin F σ a1 v32) fun v34 σ33 => (aS L xs ((z3 + 1))).bind fun v35 => bq (g_X6_coin F σ33 a2 v35) fun v37 σ36 => if v34 = v37 then (k9 σ36 k n) else (some (0, σ36, k, n))) else if (v7 &&& 63) = 3 then ((aS L xs ((z3 + 1))).bind fun v38 => (aS L xs ((z3 + 2))).bind fun v39 => (aS L xs ((z3 + 3))).bind fun v40 => (aS L xs ((z3 + 4))).bind fun v41 => (aS L xs ((z3 + 5))).bind fun v42 => bq (g_X0_feed F σ a1 v38 v39 v40 v41 v42) fun v44 σ43 => (aS L xs ((z3 + 1))).bind fun v45 => (aS L xs ((z3 + 2))).bind fun v46 => (aS L xs ((z3 + 3))).bind fun v47 => (aS L xs ((z3 + 4))).bind fun v48 => (aS L xs ((z3 + 5))).bind fun v49 => bq (g_X6_feed F σ43 a2 v45 v46 v47 v48 v49) fun v51 σ50 => if v44 = v51 then (k9 σ50 k n) else (some (0, σ50, k, n))) else if (v7 &&& 63) = 4 then ((aS L xs ((z3 + 1))).bind fun v52 => bc (1200000 - k) (5502250 - n) (g_X0_law F (1200000 - k) (5502250 - n) σ a1 v52) fun v54 σ53 c55 e56 => (aS L xs ((z3 + 1))).bind fun v57 => bq (g_X6_law F σ53 a2 v57) fun v59 σ58 => if v54 = v59 then (k9 σ58 ((k + c55)) ((n + e56))) else (some (0, σ58, (k + c55), (n + e56)))) else if (v7 &&& 63) = 5 then ((aS L xs ((z3 + 1))).bind fun v60 => if k + 13 ≤ 1200000 ∧ n + 119 ≤ 5502250 then (bq (g_X0_debts F σ a1 v60) fun v61 σ62 => (aS L xs ((z3 + 1))).bind fun v63 => bq (g_X6_debts F σ62 a2 v63) fun v65 σ64 => if v61 = v65 then (k9 σ64 ((k + 13)) ((n + 119))) else (some (0, σ64, (k + 13), (n + 119)))) else none) else if (v7 &&& 63) = 6 then ((aS L xs ((z3 + 1))).bind fun v66 => bq (g_X0_hours F σ a1 v66) fun v68 σ67 => (aS L xs ((z3 + 1))).bind fun v69 => bq (g_X6_hours F σ67 a2 v69) fun v71 σ70 => if v68 = v71 then (k9 σ70 k n) else (some (0, σ70, k, n))) else if (v7 &&& 63) = 7 then ((aS L xs ((z3 + 1))).bind fun v72 => (aS L xs ((z3 + 2))).bind fun v73 => bq (g_X0_tried F σ a1 v72 v73) fun v75 σ74 => (aS L xs ((z3 + 1))).bind fun v76 => (aS L xs ((z3 + 2))).bind fun v77 => bq (g_X6_tried F σ74 a2 v76 v77) fun v79 σ78 => if v75 = v79 then (k9 σ78 k n) else (some (0, σ78, k, n))) else if (v7 &&& 63) = 8 then ((aS L xs ((z3 + 1))).bind fun v80 => (aS L xs ((z3 + 2))).bind fun v81 => bq (g_X0_personIs F σ a1 v80 v81) fun v83 σ82 => (aS L xs ((z3 + 1))).bind fun v84 => (aS L xs ((z3 + 2))).bind fun v85 => bq (g_X6_personIs F σ82 a2 v84 v85) fun v87 σ86 => if v83 = v87 then (k9 σ86 k n) else (some (0, σ86, k, n))) else if (v7 &&& 63) = 9 then ((aS L xs ((z3 + 1))).bind fun v88 => (aS L xs ((z3 + 2))).bind fun v89 => bq (g_X0_owes F σ a1 v88 v89) fun v91 σ90 => (aS L xs ((z3 + 1))).bind fun v92 => (aS L xs ((z3 + 2))).bind fun v93 => bq (g_X6_owes F σ90 a2 v92 v93) fun v95 σ94 => if v91 = v95 then (k9 σ94 k n) else (some (0, σ94, k, n))) else if (v7 &&& 63) = 10 then ((aS L xs ((z3 + 1))).bind fun v96 => (aS L xs ((z3 + 2))).bind fun v97 => bq (g_X0_likes F σ a1 v96 v97) fun v99 σ98 => (aS L xs ((z3 + 1))).bind fun v100 => (aS L xs ((z3 + 2))).bind fun v101 => bq (g_X6_likes F σ98 a2 v100 v101) fun v103 σ102 => if v99 = v103 then (k9 σ102 k n) else (some (0, σ102, k, n))) else if (v7 &&& 63) = 11 then ((aS L xs ((z3 + 1))).bind fun v104 => (aS L xs ((z3 + 2))).bind fun v105 => if k + 2 ≤ 1200000 ∧ n + 69 ≤ 5502250 then (bq (g_X0_route F σ a1 v104 v105) fun v106 σ107 => (aS L xs ((z3 + 1))).bind fun v108 => (aS L xs ((z3 + 2))).bind fun v109 => bq (g_X6_route F σ107 a2 v108 v109) fun v111 σ110 => if v106 = v111 then (k9 σ110 ((k + 2)) ((n + 69))) else (some (0, σ110, (k + 2), (n + 69)))) else none) else if (v7 &&& 63) = 12 then ((aS L xs ((z3 + 1))).bind fun v112 => if k + 2 ≤ 1200000 ∧ n + 69 ≤ 5502250 then (bq (g_X0_walk F σ a1 v112) fun v113 σ114 => (aS L xs ((z3 + 1))).bind fun v115 => bq (g_X6_walk F σ114 a2 v115) fun v117 σ116 => if v113 = v117 then (k9 σ116 ((k + 2)) ((n + 69))) else (some (0, σ116, (k + 2), (n + 69)))) else none) else if (v7 &&& 63) = 13 then ((aS L xs ((z3 + 1))).bind fun v118 => bq (g_X0_tour F σ a1 v118) fun v120 σ119 => (aS L xs ((z3 + 1))).bind fun v121 => bq (g_X6_tour F σ119 a2 v121) fun v123 σ122 => if v120 = v123 then (k9 σ122 k n) else (some (0, σ122, k, n))) else if (v7 &&& 63) = 14 then ((aS L xs ((z3 + 1))).bind fun v124 => bq (g_X0_most F σ a1 v124) fun v126 σ125 => (aS L xs ((z3 + 1))).bind fun v127 => bq (g_X6_most F σ125 a2 v127) fun v129 σ128 => if v126 = v129 then (k9 σ128 k n) else (some (0, σ128, k, n))) else if (v7 &&& 63) = 15 then ((aS L xs ((z3 + 1))).bind fun v130 => (aS L xs ((z3 + 2))).bind fun v131 => bq (g_X0_back F σ a1 v130 v131) fun v133 σ132 => (aS L xs ((z3 + 1))).bind fun v134 => (aS L xs ((z3 + 2))).bind fun v135 => bq (g_X6_back F σ132 a2 v134 v135) fun v137 σ136 => if v133 = v137 then (k9 σ136 k n) else (some (0, σ136, k, n))) else if (v7 &&& 63) = 16 then ((aS L xs ((z3 + 1))).bind fun v138 => bq (g_X0_even F σ a1 v138) fun v140 σ139 => (aS L xs ((z3 + 1))).bind fun v141 => bq (g_X6_even F σ139 a2 v141) fun v143 σ142 => if v140 = v143 then (k9 σ142 k n) else (some (0, σ142, k, n))) else if (v7 &&& 63) = 17 then ((aS L xs ((z3 + 1))).bind fun v144 => bq (g_X0_turned F σ a1 v144) fun v146 σ145 => (aS L xs ((z3 + 1))).bind fun v147 => bq (g_X6_turned F σ145 a2 v147) fun v149 σ148 => if v146 = v149 then (k9 σ148 k n) else (some (0, σ148, k, n))) else if (v7 &&& 63) = 18 then ((aS L xs ((z3 + 1))).bind fun v150 => bq (g_X0_setOff F σ a1 v150) fun v152 σ151 => (aS L xs ((z3 + 1))).bind fun v153 => bq (g_X6_setOff F σ151 a2 v153) fun v155 σ154 => if v152 = v155 then (k9 σ154 k n) else (some (0, σ154, k, n))) else if (v7 &&& 63) = 19 then (bq (g_X0_fewest F σ a1) fun v157 σ156 => bq (g_X6_fewest F σ156 a2) fun v159 σ158 => if v157 = v159 then (k9 σ158 k n) else (some (0, σ158, k, n))) else if (v7 &&& 63) = 20 then ((aS L xs ((z3 + 1))).bind fun v160 => bq (g_X0_rings F σ a1 v160) fun v162 σ161 => (aS L xs ((z3 + 1))).bind fun v163 => bq (g_X6_rings F σ161 a2 v163) fun v165 σ164 => if v162 = v165 then (k9 σ164 k n) else (some (0, σ164, k, n))) else if (v7 &&& 63) = 21 then (bq (g_X0_off F σ a1) fun v167 σ166 => bq (g_X6_off F σ166 a2) fun v169 σ168 => if v167 = v169 then (k9 σ168 k n) else (some (0, σ168, k, n))) else if (v7 &&& 63) = 22 then ((aS L xs ((z3 + 1))).bind fun v170 => (aS L xs ((z3 + 2))).bind fun v171 => bq (g_X0_when F σ a1 v170 v171) fun v173 σ172 => (aS L xs ((z3 + 1))).bind fun v174 => (aS L xs ((z3 + 2))).bind fun v175 => bq (g_X6_when F σ172 a2 v174 v175) fun v177 σ176 => if v173 = v177 then (k9 σ176 k n) else (some (0, σ176, k, n))) else if (v7 &&& 63) = 23 then ((aS L xs ((z3 + 1))).bind fun v178 => (aS L xs ((z3 + 2))).bind fun v179 => (aS L xs ((z3 + 3))).bind fun v180 => bq (g_X0_wedding F σ a1 v178 v179 v180) fun v182 σ181 => (aS L xs ((z3 + 1))).bind fun v183 => (aS L xs ((z3 + 2))).bind fun v184 => (aS L xs ((z3 + 3))).bind fun v185 => bq (g_X6_wedding F σ181 a2 v183 v184 v185) fun v187 σ186 => if v182 = v187 then (k9 σ186 k n) else (some (0, σ186, k, n))) else if (v7 &&& 63) = 24 then (bq (g_X0_longest_2 F σ a1) fun v189 σ188 => bq (g_X6_longest F σ188 a2) fun v191 σ190 => if v189 = v191 then (k9 σ190 k n) else (some (0, σ190, k, n))) else if (v7 &&& 63) = 25 then ((aS L xs ((z3 + 1))).bind fun v192 => bq (g_X0_chalk F σ a1 v192) fun v194 σ193 => (aS L xs ((z3 + 1))).bind fun v195 => bq (g_X6_chalk F σ193 a2 v195) fun v197 σ196 => if v194 = v197 then (k9 σ196 k n) else (some (0, σ196, k, n))) else if (v7 &&& 63) = 26 then ((aS L xs ((z3 + 1))).bind fun v198 => bq (g_X0_two F σ a1 v198) fun v200 σ199 => (aS L xs ((z3 + 1))).bind fun v201 => bq (g_X6_two F σ199 a2 v201) fun v203 σ202 => if v200 = v203 then (k9 σ202 k n) else (some (0, σ202, k, n))) else if (v7 &&& 63) = 27 then ((aS L xs ((z3 + 1))).bind fun v204 => (aS L xs ((z3 + 2))).bind fun v205 => bq (g_X0_dry F σ a1 v204 v205) fun v207 σ206 => (aS L xs ((z3 + 1))).bind fun v208 => (aS L xs ((z3 + 2))).bind fun v209 => bq (g_X6_dry F σ206 a2 v208 v209) fun v211 σ210 => if v207 = v211 then (k9 σ210 k n) else (some (0, σ210, k, n))) else if (v7 &&& 63) = 28 then ((aS L xs ((z3 + 1))).bind fun v212 => bq (g_X0_seed F σ a1 v212) fun v214 σ213 => (aS L xs ((z3 + 1))).bind fun v215 => bq (g_X6_seed F σ213 a2 v215) fun v217 σ216 => if v214 = v217 then (k9 σ216 k n) else (some (0, σ216, k, n))) else if (v7 &&& 63) = 29 then (bq (g_X0_keep F σ a1) fun v219 σ218 => bq (g_X6_keep F σ218 a2) fun v221 σ220 => if v219 = v221 then (k9 σ220 k n) else (some (0, σ220, k, n))) else if (v7 &&& 63) = 30 then (bq (g_X0_undo F σ a1) fun v223 σ222 => bq (g_X6_undo F σ222 a2) fun v225 σ224 => if v223 = v225 then (k9 σ224 k n) else (some (0, σ224, k, n))) else if (v7 &&& 63) = 31 then ((aS L xs ((z3 + 1))).bind fun v226 => bq (g_X0_check F σ a1 v226) fun v228 σ227 => (aS L xs ((z3 + 1))).bind fun v229 => bq (g_X6_check F σ227 a2 v229) fun v231 σ230 => if v228 = v231 then (k9 σ230 k n) else (some (0, σ230, k, n))) else if (v7 &&& 63) = 32 then ((aS L xs ((z3 + 1))).bind fun v232 => bq (g_X0_count F σ a1 v232) fun v234 σ233 => (aS L xs ((z3 + 1))).bind fun v235 => bq (g_X6_count F σ233 a2 v235) fun v237 σ236 => if v234 = v237 then (k9 σ236 k n) else (some (0, σ236, k, n))) else (k9 σ k n)))
def g_L_law (F : Nat) (L : Nat) (xs : Nat → Int32) (σ : MM) : Option (Int32 × MM × Nat × Nat) := nwL (0 + 1 ≤ 1200000 ∧ 0 + 22 ≤ 5502250) σ (0, 22) fun p1 σ2 => if (0 + 1) + 83 ≤ 1200000 ∧ (0 + 22) + 2274 ≤ 5502250 then ((g_X0_init F σ2 p1).bind fun σ3 => nwL (((0 + 1) + 83) + 1 ≤ 1200000 ∧ ((0 + 22) + 2274) + 62 ≤ 5502250) σ3 (5, 62) fun p4 σ5 => if (((0 + 1) + 83) + 1) + 37 ≤ 1200000 ∧ (((0 + 22) + 2274) + 62) + 45515 ≤ 5502250 then ((g_X6_init F σ5 p4).bind fun σ6 => l_L_law_18 L xs (fun (σ238 : MM) (c239 e240 : Nat) => some (1, σ238, c239, e240)) F p1 p4 F 0 σ6 (((((0 + 1) + 83) + 1) + 37)) (((((0 + 22) + 2274) + 62) + 45515))) else none) else none
theorem wl_L_law_18 {B : Nat} {G : XG} {d : Nat} {σf : MM} {kf nf : Nat} {b L : Nat} {xs : Nat → Int32} (hd : 397 ≤ d) (C : xC B G yL_law cL_law 4 (some .boolean) d 1200000 5502250) (E : xLaw B b L xs G) {K : MM → Nat → Nat → Option (Int32 × MM × Nat × Nat)} {F : Nat} {a1 : Nat} {a2 : Nat} (hK : ∀ (σ : MM) (k n : Nat), k ≤ 1200000 → n ≤ 5502250 → K σ k n = some ((1 : Int32), σf, kf, nf) → xV B G k n σ 1075 [] []) : ∀ (f : Nat) (z3 : Int32) (σ : MM) (k n : Nat), k ≤ 1200000 → n ≤ 5502250 → l_L_law_18 L xs K F a1 a2 f z3 σ k n = some ((1 : Int32), σf, kf, nf) → xV B G k n σ 18 [(0, .ref b), (1, rv B a1), (2, rv B a2), (3, .int z3)] [] := by
  intro f
  induction f with
  | zero =>
    intro z3 σ k n hk hn h
    have h : none = some ((1 : Int32), σf, kf, nf) := h
    cases h
  | succ f ih =>
    intro z3 σ k n hk hn h
    rw [l_L_law_18.eq_2] at h
    refine r_iload_n (pc := 18) (i := 3) C dL_law_18 rfl rfl ?_
    refine r_aloadR_n (pc := 19) (i := 0) C dL_law_19 rfl rfl ?_
    refine r_scrl (pc := 20) C E dL_law_20 ?_
    refine r_bipush (pc := 21) (v := 6) C dL_law_21 (by decide) ?_
    refine r_isub (pc := 23) C dL_law_23 ?_
    refine r_icmpgt (pc := 24) (tgt := 1075) C dL_law_24 (by decide) h (fun h => ?_) (fun h => ?_)
    · refine r_pick (lv' := []) [] rfl ?_
      exact hK _ _ _ (by omega) (by omega) h
    · refine r_aloadR_n (pc := 27) (i := 0) C dL_law_27 rfl rfl ?_
      refine r_iload_n (pc := 28) (i := 3) C dL_law_28 rfl rfl ?_
      refine r_scri (pc := 29) C E dL_law_29 h (fun v7 h => ?_)
      refine r_bipush (pc := 30) (v := 63) C dL_law_30 (by decide) ?_
      refine r_iand (pc := 32) C dL_law_32 ?_
      refine r_jn (fun k9 => ∀  (σ8 : MM) (c10 e11 : Nat), c10 ≤ 1200000 → e11 ≤ 5502250 → k9 σ8 c10 e11 = some ((1 : Int32), σf, kf, nf) → xV B G c10 e11 σ8 1069 [(0, .ref b), (1, rv B a1), (2, rv B a2), (3, .int z3)] []) h (fun  σ8 c10 e11 hkc10 hne11 h => ?_) (fun k9 hk9 h => ?_)
      · refine r_iinc (pc := 1069) (i := 3) (v := (z3 + 6)) C dL_law_1069 rfl rfl (by decide) ?_
        refine r_goto (pc := 1072) (tgt := 18) C dL_law_1072 (by decide) ?_
        refine r_pick (lv' := [(0, .ref b), (1, rv B a1), (2, rv B a2), (3, .int (z3 + 6))]) [0, 1, 2, 3] rfl ?_
        exact ih _ _ _ _ (by omega) (by omega) h
      · by_cases c0_33 : (v7 &&& 63) = 0
        · rw [if_pos c0_33] at h
          refine r_tswE (pc := 33) (tgt := 180) C dL_law_33 c0_33 (by decide) (by decide) rfl (by decide) ?_
          refine r_aload_n (pc := 180) (i := 1) C dL_law_180 rfl rfl ?_
          refine r_aloadR_n (pc := 181) (i := 0) C dL_law_181 rfl rfl ?_
          refine r_iload_n (pc := 182) (i := 3) C dL_law_182 rfl rfl ?_
          refine r_iconst (pc := 183) (v := 1) C dL_law_183 (by decide) ?_
          refine r_iadd (pc := 184) C dL_law_184 ?_
          refine r_scri (pc := 185) C E dL_law_185 h (fun v12 h => ?_)
          refine r_aloadR_n (pc := 186) (i := 0) C dL_law_186 rfl rfl ?_
          refine r_iload_n (pc := 187) (i := 3) C dL_law_187 rfl rfl ?_
          refine r_iconst (pc := 188) (v := 2) C dL_law_188 (by decide) ?_
          refine r_iadd (pc := 189) C dL_law_189 ?_
          refine r_scri (pc := 190) C E dL_law_190 h (fun v13 h => ?_)
          refine r_aloadR_n (pc := 191) (i := 0) C dL_law_191 rfl rfl ?_
          refine r_iload_n (pc := 192) (i := 3) C dL_law_192 rfl rfl ?_
          refine r_iconst (pc := 193) (v := 3) C dL_law_193 (by decide) ?_
          refine r_iadd (pc := 194) C dL_law_194 ?_
          refine r_scri (pc := 195) C E dL_law_195 h (fun v14 h => ?_)
          refine r_callVI (pc := 196) (As := [.int v12, .int v13, .int v14]) (st := []) (hc := by omega) (hsl := by omega) C cs_L_13_X0_person h (fun _ _ e => w_X0_person (Nat.le_refl 1) e) (fun _ _ e => t_X0_person e) (Nat.le_trans (Nat.le_of_ble_eq_true rfl) hd) (Nat.le_of_ble_eq_true rfl) dL_law_196 (fun v16 σ15 h => ?_)
          refine r_aload_n (pc := 199) (i := 2) C dL_law_199 rfl rfl ?_
          refine r_aloadR_n (pc := 200) (i := 0) C dL_law_200 rfl rfl ?_
          refine r_iload_n (pc := 201) (i := 3) C dL_law_201 rfl rfl ?_
          refine r_iconst (pc := 202) (v := 1) C dL_law_202 (by decide) ?_
          refine r_iadd (pc := 203) C dL_law_203 ?_
          refine r_scri (pc := 204) C E dL_law_204 h (fun v17 h => ?_)
          refine r_aloadR_n (pc := 205) (i := 0) C dL_law_205 rfl rfl ?_
          refine r_iload_n (pc := 206) (i := 3) C dL_law_206 rfl rfl ?_
          refine r_iconst (pc := 207) (v := 2) C dL_law_207 (by decide) ?_
          refine r_iadd (pc := 208) C dL_law_208 ?_
          refine r_scri (pc := 209) C E dL_law_209 h (fun v18 h => ?_)
          refine r_aloadR_n (pc := 210) (i := 0) C dL_law_210 rfl rfl ?_
          refine r_iload_n (pc := 211) (i := 3) C dL_law_211 rfl rfl ?_
          refine r_iconst (pc := 212) (v := 3) C dL_law_212 (by decide) ?_
          refine r_iadd (pc := 213) C dL_law_213 ?_
          refine r_scri (pc := 214) C E dL_law_214 h (fun v19 h => ?_)
          refine r_callVI (pc := 215) (As := [.int v17, .int v18, .int v19]) (st := [.int v16]) (hc := by omega) (hsl := by omega) C cs_L_17_X6_person h (fun _ _ e => w_X6_person (Nat.le_refl 1) e) (fun _ _ e => t_X6_person e) (Nat.le_trans (Nat.le_of_ble_eq_true rfl) hd) (Nat.le_of_ble_eq_true rfl) dL_law_215 (fun v21 σ20 h => ?_)
          refine r_icmpeq (pc := 218) (tgt := 1069) C dL_law_218 (by decide) h (fun h => ?_) (fun h => ?_)
          · refine r_pick (lv' := [(0, .ref b), (1, rv B a1), (2, rv B a2), (3, .int z3)]) [0, 1, 2, 3] rfl ?_
            exact hk9 _ _ _ (by omega) (by omega) h
          · refine r_iconst (pc := 221) (v := 0) C dL_law_221 (by decide) ?_
            exact r_lret (pc := 222) C E dL_law_222 h (by omega) (by omega)
        rw [if_neg c0_33] at h
        by_cases c1_33 : (v7 &&& 63) = 1
        · rw [if_pos c1_33] at h
          refine r_tswE (pc := 33) (tgt := 223) C dL_law_33 c1_33 (by decide) (by decide) rfl (by decide) ?_
          refine r_aload_n (pc := 223) (i := 1) C dL_law_223 rfl rfl ?_
          refine r_aloadR_n (pc := 224) (i := 0) C dL_law_224 rfl rfl ?_
          refine r_iload_n (pc := 225) (i := 3) C dL_law_225 rfl rfl ?_
          refine r_iconst (pc := 226) (v := 1) C dL_law_226 (by decide) ?_
          refine r_iadd (pc := 227) C dL_law_227 ?_
          refine r_scri (pc := 228) C E dL_law_228 h (fun v22 h => ?_)
          refine r_aloadR_n (pc := 229) (i := 0) C dL_law_229 rfl rfl ?_
          refine r_iload_n (pc := 230) (i := 3) C dL_law_230 rfl rfl ?_
          refine r_iconst (pc := 231) (v := 2) C dL_law_231 (by decide) ?_
          refine r_iadd (pc := 232) C dL_law_232 ?_
          refine r_scri (pc := 233) C E dL_law_233 h (fun v23 h => ?_)
          refine r_aloadR_n (pc := 234) (i := 0) C dL_law_234 rfl rfl ?_
          refine r_iload_n (pc := 235) (i := 3) C dL_law_235 rfl rfl ?_
          refine r_iconst (pc := 236) (v := 3) C dL_law_236 (by decide) ?_
          refine r_iadd (pc := 237) C dL_law_237 ?_
          refine r_scri (pc := 238) C E dL_law_238 h (fun v24 h => ?_)
          refine r_callVI (pc := 239) (As := [.int v22, .int v23, .int v24]) (st := []) (hc := by omega) (hsl := by omega) C cs_L_18_X0_debt h (fun _ _ e => w_X0_debt (Nat.le_refl 2) e) (fun _ _ e => t_X0_debt e) (Nat.le_trans (Nat.le_of_ble_eq_true rfl) hd) (Nat.le_of_ble_eq_true rfl) dL_law_239 (fun v26 σ25 h => ?_)
          refine r_aload_n (pc := 242) (i := 2) C dL_law_242 rfl rfl ?_
          refine r_aloadR_n (pc := 243) (i := 0) C dL_law_243 rfl rfl ?_
          refine r_iload_n (pc := 244) (i := 3) C dL_law_244 rfl rfl ?_
          refine r_iconst (pc := 245) (v := 1) C dL_law_245 (by decide) ?_
          refine r_iadd (pc := 246) C dL_law_246 ?_
          refine r_scri (pc := 247) C E dL_law_247 h (fun v27 h => ?_)
          refine r_aloadR_n (pc := 248) (i := 0) C dL_law_248 rfl rfl ?_
          refine r_iload_n (pc := 249) (i := 3) C dL_law_249 rfl rfl ?_
          refine r_iconst (pc := 250) (v := 2) C dL_law_250 (by decide) ?_
          refine r_iadd (pc := 251) C dL_law_251 ?_
          refine r_scri (pc := 252) C E dL_law_252 h (fun v28 h => ?_)
          refine r_aloadR_n (pc := 253) (i := 0) C dL_law_253 rfl rfl ?_
          refine r_iload_n (pc := 254) (i := 3) C dL_law_254 rfl rfl ?_
          refine r_iconst (pc := 255) (v := 3) C dL_law_255 (by decide) ?_
          refine r_iadd (pc := 256) C dL_law_256 ?_
          refine r_scri (pc := 257) C E dL_law_257 h (fun v29 h => ?_)
          refine r_callVI (pc := 258) (As := [.int v27, .int v28, .int v29]) (st := [.int v26]) (hc := by omega) (hsl := by omega) C cs_L_21_X6_debt h (fun _ _ e => w_X6_debt (Nat.le_refl 3) e) (fun _ _ e => t_X6_debt e) (Nat.le_trans (Nat.le_of_ble_eq_true rfl) hd) (Nat.le_of_ble_eq_true rfl) dL_law_258 (fun v31 σ30 h => ?_)
          refine r_icmpeq (pc := 261) (tgt := 1069) C dL_law_261 (by decide) h (fun h => ?_) (fun h => ?_)
          · refine r_pick (lv' := [(0, .ref b), (1, rv B a1), (2, rv B a2), (3, .int z3)]) [0, 1, 2, 3] rfl ?_
            exact hk9 _ _ _ (by omega) (by omega) h
          · refine r_iconst (pc := 264) (v := 0) C dL_law_264 (by decide) ?_
            exact r_lret (pc := 265) C E dL_law_265 h (by omega) (by omega)
        rw [if_neg c1_33] at h
        by_cases c2_33 : (v7 &&& 63) = 2
        · rw [if_pos c2_33] at h
          refine r_tswE (pc := 33) (tgt := 266) C dL_law_33 c2_33 (by decide) (by decide) rfl (by decide) ?_
          refine r_aload_n (pc := 266) (i := 1) C dL_law_266 rfl rfl ?_
          refine r_aloadR_n (pc := 267) (i := 0) C dL_law_267 rfl rfl ?_
          refine r_iload_n (pc := 268) (i := 3) C dL_law_268 rfl rfl ?_
          refine r_iconst (pc := 269) (v := 1) C dL_law_269 (by decide) ?_
          refine r_iadd (pc := 270) C dL_law_270 ?_
          refine r_scri (pc := 271) C E dL_law_271 h (fun v32 h => ?_)
          refine r_callVI (pc := 272) (As := [.int v32]) (st := []) (hc := by omega) (hsl := by omega) C cs_L_22_X0_coin h (fun _ _ e => w_X0_coin (Nat.le_refl 2) e) (fun _ _ e => t_X0_coin e) (Nat.le_trans (Nat.le_of_ble_eq_true rfl) hd) (Nat.le_of_ble_eq_true rfl) dL_law_272 (fun v34 σ33 h => ?_)
          refine r_aload_n (pc := 275) (i := 2) C dL_law_275 rfl rfl ?_
          refine r_aloadR_n (pc := 276) (i := 0) C dL_law_276 rfl rfl ?_
          refine r_iload_n (pc := 277) (i := 3) C dL_law_277 rfl rfl ?_
          refine r_iconst (pc := 278) (v := 1) C dL_law_278 (by decide) ?_
          refine r_iadd (pc := 279) C dL_law_279 ?_
          refine r_scri (pc := 280) C E dL_law_280 h (fun v35 h => ?_)
          refine r_callVI (pc := 281) (As := [.int v35]) (st := [.int v34]) (hc := by omega) (hsl := by omega) C cs_L_26_X6_coin h (fun _ _ e => w_X6_coin (Nat.le_refl 2) e) (fun _ _ e => t_X6_coin e) (Nat.le_trans (Nat.le_of_ble_eq_true rfl) hd) (Nat.le_of_ble_eq_true rfl) dL_law_281 (fun v37 σ36 h => ?_)
          refine r_icmpeq (pc := 284) (tgt := 1069) C dL_law_284 (by decide) h (fun h => ?_) (fun h => ?_)
          · refine r_pick (lv' := [(0, .ref b), (1, rv B a1), (2, rv B a2), (3, .int z3)]) [0, 1, 2, 3] rfl ?_
            exact hk9 _ _ _ (by omega) (by omega) h
          · refine r_iconst (pc := 287) (v := 0) C dL_law_287 (by decide) ?_
            exact r_lret (pc := 288) C E dL_law_288 h (by omega) (by omega)
        rw [if_neg c2_33] at h
        by_cases c3_33 : (v7 &&& 63) = 3
        · rw [if_pos c3_33] at h
          refine r_tswE (pc := 33) (tgt := 289) C dL_law_33 c3_33 (by decide) (by decide) rfl (by decide) ?_
          refine r_aload_n (pc := 289) (i := 1) C dL_law_289 rfl rfl ?_
          refine r_aloadR_n (pc := 290) (i := 0) C dL_law_290 rfl rfl ?_
          refine r_iload_n (pc := 291) (i := 3) C dL_law_291 rfl rfl ?_
          refine r_iconst (pc := 292) (v := 1) C dL_law_292 (by decide) ?_
          refine r_iadd (pc := 293) C dL_law_293 ?_
          refine r_scri (pc := 294) C E dL_law_294 h (fun v38 h => ?_)
          refine r_aloadR_n (pc := 295) (i := 0) C dL_law_295 rfl rfl ?_
          refine r_iload_n (pc := 296) (i := 3) C dL_law_296 rfl rfl ?_
          refine r_iconst (pc := 297) (v := 2) C dL_law_297 (by decide) ?_
          refine r_iadd (pc := 298) C dL_law_298 ?_
          refine r_scri (pc := 299) C E dL_law_299 h (fun v39 h => ?_)
          refine r_aloadR_n (pc := 300) (i := 0) C dL_law_300 rfl rfl ?_
          refine r_iload_n (pc := 301) (i := 3) C dL_law_301 rfl rfl ?_
          refine r_iconst (pc := 302) (v := 3) C dL_law_302 (by decide) ?_
          refine r_iadd (pc := 303) C dL_law_303 ?_
          refine r_scri (pc := 304) C E dL_law_304 h (fun v40 h => ?_)
          refine r_aloadR_n (pc := 305) (i := 0) C dL_law_305 rfl rfl ?_
          refine r_iload_n (pc := 306) (i := 3) C dL_law_306 rfl rfl ?_
          refine r_iconst (pc := 307) (v := 4) C dL_law_307 (by decide) ?_
          refine r_iadd (pc := 308) C dL_law_308 ?_
          refine r_scri (pc := 309) C E dL_law_309 h (fun v41 h => ?_)
          refine r_aloadR_n (pc := 310) (i := 0) C dL_law_310 rfl rfl ?_
          refine r_iload_n (pc := 311) (i := 3) C dL_law_311 rfl rfl ?_
          refine r_iconst (pc := 312) (v := 5) C dL_law_312 (by decide) ?_
          refine r_iadd (pc := 313) C dL_law_313 ?_
          refine r_scri (pc := 314) C E dL_law_314 h (fun v42 h => ?_)
          refine r_callVI (pc := 315) (As := [.int v38, .int v39, .int v40, .int v41, .int v42]) (st := []) (hc := by omega) (hsl := by omega) C cs_L_27_X0_feed h (fun _ _ e => w_X0_feed (Nat.le_refl 1) e) (fun _ _ e => t_X0_feed e) (Nat.le_trans (Nat.le_of_ble_eq_true rfl) hd) (Nat.le_of_ble_eq_true rfl) dL_law_315 (fun v44 σ43 h => ?_)
          refine r_aload_n (pc := 318) (i := 2) C dL_law_318 rfl rfl ?_
          refine r_aloadR_n (pc := 319) (i := 0) C dL_law_319 rfl rfl ?_
          refine r_iload_n (pc := 320) (i := 3) C dL_law_320 rfl rfl ?_
          refine r_iconst (pc := 321) (v := 1) C dL_law_321 (by decide) ?_
          refine r_iadd (pc := 322) C dL_law_322 ?_
          refine r_scri (pc := 323) C E dL_law_323 h (fun v45 h => ?_)
          refine r_aloadR_n (pc := 324) (i := 0) C dL_law_324 rfl rfl ?_
          refine r_iload_n (pc := 325) (i := 3) C dL_law_325 rfl rfl ?_
          refine r_iconst (pc := 326) (v := 2) C dL_law_326 (by decide) ?_
          refine r_iadd (pc := 327) C dL_law_327 ?_
          refine r_scri (pc := 328) C E dL_law_328 h (fun v46 h => ?_)
          refine r_aloadR_n (pc := 329) (i := 0) C dL_law_329 rfl rfl ?_
          refine r_iload_n (pc := 330) (i := 3) C dL_law_330 rfl rfl ?_
          refine r_iconst (pc := 331) (v := 3) C dL_law_331 (by decide) ?_
          refine r_iadd (pc := 332) C dL_law_332 ?_
          refine r_scri (pc := 333) C E dL_law_333 h (fun v47 h => ?_)
          refine r_aloadR_n (pc := 334) (i := 0) C dL_law_334 rfl rfl ?_
          refine r_iload_n (pc := 335) (i := 3) C dL_law_335 rfl rfl ?_
          refine r_iconst (pc := 336) (v := 4) C dL_law_336 (by decide) ?_
          refine r_iadd (pc := 337) C dL_law_337 ?_
          refine r_scri (pc := 338) C E dL_law_338 h (fun v48 h => ?_)
          refine r_aloadR_n (pc := 339) (i := 0) C dL_law_339 rfl rfl ?_
          refine r_iload_n (pc := 340) (i := 3) C dL_law_340 rfl rfl ?_
          refine r_iconst (pc := 341) (v := 5) C dL_law_341 (by decide) ?_
          refine r_iadd (pc := 342) C dL_law_342 ?_
          refine r_scri (pc := 343) C E dL_law_343 h (fun v49 h => ?_)
          refine r_callVI (pc := 344) (As := [.int v45, .int v46, .int v47, .int v48, .int v49]) (st := [.int v44]) (hc := by omega) (hsl := by omega) C cs_L_31_X6_feed h (fun _ _ e => w_X6_feed (Nat.le_refl 1) e) (fun _ _ e => t_X6_feed e) (Nat.le_trans (Nat.le_of_ble_eq_true rfl) hd) (Nat.le_of_ble_eq_true rfl) dL_law_344 (fun v51 σ50 h => ?_)
          refine r_icmpeq (pc := 347) (tgt := 1069) C dL_law_347 (by decide) h (fun h => ?_) (fun h => ?_)
          · refine r_pick (lv' := [(0, .ref b), (1, rv B a1), (2, rv B a2), (3, .int z3)]) [0, 1, 2, 3] rfl ?_
            exact hk9 _ _ _ (by omega) (by omega) h
          · refine r_iconst (pc := 350) (v := 0) C dL_law_350 (by decide) ?_
            exact r_lret (pc := 351) C E dL_law_351 h (by omega) (by omega)
        rw [if_neg c3_33] at h
        by_cases c4_33 : (v7 &&& 63) = 4
        · rw [if_pos c4_33] at h
          refine r_tswE (pc := 33) (tgt := 352) C dL_law_33 c4_33 (by decide) (by decide) rfl (by decide) ?_
          refine r_aload_n (pc := 352) (i := 1) C dL_law_352 rfl rfl ?_
          refine r_aloadR_n (pc := 353) (i := 0) C dL_law_353 rfl rfl ?_
          refine r_iload_n (pc := 354) (i := 3) C dL_law_354 rfl rfl ?_
          refine r_iconst (pc := 355) (v := 1) C dL_law_355 (by decide) ?_
          refine r_iadd (pc := 356) C dL_law_356 ?_
          refine r_scri (pc := 357) C E dL_law_357 h (fun v52 h => ?_)
          refine r_callVDI (pc := 358) (As := [.int v52]) (st := []) C cs_L_32_X0_law rfl (lw_V q415 q416 q417 q116 q418) h (fun _ _ _ _ e => w_X0_law (Nat.le_refl 396) e) (fun _ _ _ _ e => t_X0_law e) (Nat.le_trans (Nat.le_of_ble_eq_true rfl) hd) (Nat.le_of_ble_eq_true rfl) dL_law_358 (by omega) (by omega) (fun v54 σ53 c55 e56 hc55 he56 h => ?_)
          refine r_aload_n (pc := 361) (i := 2) C dL_law_361 rfl rfl ?_
          refine r_aloadR_n (pc := 362) (i := 0) C dL_law_362 rfl rfl ?_
          refine r_iload_n (pc := 363) (i := 3) C dL_law_363 rfl rfl ?_
          refine r_iconst (pc := 364) (v := 1) C dL_law_364 (by decide) ?_
          refine r_iadd (pc := 365) C dL_law_365 ?_
          refine r_scri (pc := 366) C E dL_law_366 h (fun v57 h => ?_)
          refine r_callVI (pc := 367) (As := [.int v57]) (st := [.int v54]) (hc := by omega) (hsl := by omega) C cs_L_36_X6_law h (fun _ _ e => w_X6_law (Nat.le_refl 8) e) (fun _ _ e => t_X6_law e) (Nat.le_trans (Nat.le_of_ble_eq_true rfl) hd) (Nat.le_of_ble_eq_true rfl) dL_law_367 (fun v59 σ58 h => ?_)
          refine r_icmpeq (pc := 370) (tgt := 1069) C dL_law_370 (by decide) h (fun h => ?_) (fun h => ?_)
          · refine r_pick (lv' := [(0, .ref b), (1, rv B a1), (2, rv B a2), (3, .int z3)]) [0, 1, 2, 3] rfl ?_
            exact hk9 _ _ _ (by omega) (by omega) h
          · refine r_iconst (pc := 373) (v := 0) C dL_law_373 (by decide) ?_
            exact r_lret (pc := 374) C E dL_law_374 h (by omega) (by omega)
        rw [if_neg c4_33] at h
        by_cases c5_33 : (v7 &&& 63) = 5
        · rw [if_pos c5_33] at h
          refine r_tswE (pc := 33) (tgt := 375) C dL_law_33 c5_33 (by decide) (by decide) rfl (by decide) ?_
          refine r_aload_n (pc := 375) (i := 1) C dL_law_375 rfl rfl ?_
          refine r_aloadR_n (pc := 376) (i := 0) C dL_law_376 rfl rfl ?_
          refine r_iload_n (pc := 377) (i := 3) C dL_law_377 rfl rfl ?_
          refine r_iconst (pc := 378) (v := 1) C dL_law_378 (by decide) ?_
          refine r_iadd (pc := 379) C dL_law_379 ?_
          refine r_scri (pc := 380) C E dL_law_380 h (fun v60 h => ?_)
          obtain ⟨hrm, h⟩ := r_ck h
          refine r_callVIm (pc := 381) (As := [.int v60]) (st := []) C cs_L_37_X0_debts h (fun _ _ e => w_X0_debts (Nat.le_refl 6) e) (fun _ _ e => t_X0_debts e) (Nat.le_trans (Nat.le_of_ble_eq_true rfl) hd) hrm.1 hrm.2 rfl rfl (Nat.le_of_ble_eq_true rfl) dL_law_381 (fun v61 σ62 h => ?_)
          refine r_aload_n (pc := 384) (i := 2) C dL_law_384 rfl rfl ?_
          refine r_aloadR_n (pc := 385) (i := 0) C dL_law_385 rfl rfl ?_
          refine r_iload_n (pc := 386) (i := 3) C dL_law_386 rfl rfl ?_
          refine r_iconst (pc := 387) (v := 1) C dL_law_387 (by decide) ?_
          refine r_iadd (pc := 388) C dL_law_388 ?_
          refine r_scri (pc := 389) C E dL_law_389 h (fun v63 h => ?_)
          refine r_callVI (pc := 390) (As := [.int v63]) (st := [.int v61]) (hc := by omega) (hsl := by omega) C cs_L_40_X6_debts h (fun _ _ e => w_X6_debts (Nat.le_refl 4) e) (fun _ _ e => t_X6_debts e) (Nat.le_trans (Nat.le_of_ble_eq_true rfl) hd) (Nat.le_of_ble_eq_true rfl) dL_law_390 (fun v65 σ64 h => ?_)
          refine r_icmpeq (pc := 393) (tgt := 1069) C dL_law_393 (by decide) h (fun h => ?_) (fun h => ?_)
          · refine r_pick (lv' := [(0, .ref b), (1, rv B a1), (2, rv B a2), (3, .int z3)]) [0, 1, 2, 3] rfl ?_
            exact hk9 _ _ _ (by omega) (by omega) h
          · refine r_iconst (pc := 396) (v := 0) C dL_law_396 (by decide) ?_
            exact r_lret (pc := 397) C E dL_law_397 h (by omega) (by omega)
        rw [if_neg c5_33] at h
        by_cases c6_33 : (v7 &&& 63) = 6
        · rw [if_pos c6_33] at h
          refine r_tswE (pc := 33) (tgt := 398) C dL_law_33 c6_33 (by decide) (by decide) rfl (by decide) ?_
          refine r_aload_n (pc := 398) (i := 1) C dL_law_398 rfl rfl ?_
          refine r_aloadR_n (pc := 399) (i := 0) C dL_law_399 rfl rfl ?_
          refine r_iload_n (pc := 400) (i := 3) C dL_law_400 rfl rfl ?_
          refine r_iconst (pc := 401) (v := 1) C dL_law_401 (by decide) ?_
          refine r_iadd (pc := 402) C dL_law_402 ?_
          refine r_scri (pc := 403) C E dL_law_403 h (fun v66 h => ?_)
          refine r_callVI (pc := 404) (As := [.int v66]) (st := []) (hc := by omega) (hsl := by omega) C cs_L_41_X0_hours h (fun _ _ e => w_X0_hours (Nat.le_refl 138) e) (fun _ _ e => t_X0_hours e) (Nat.le_trans (Nat.le_of_ble_eq_true rfl) hd) (Nat.le_of_ble_eq_true rfl) dL_law_404 (fun v68 σ67 h => ?_)
          refine r_aload_n (pc := 407) (i := 2) C dL_law_407 rfl rfl ?_
          refine r_aloadR_n (pc := 408) (i := 0) C dL_law_408 rfl rfl ?_
          refine r_iload_n (pc := 409) (i := 3) C dL_law_409 rfl rfl ?_
          refine r_iconst (pc := 410) (v := 1) C dL_law_410 (by decide) ?_
          refine r_iadd (pc := 411) C dL_law_411 ?_
          refine r_scri (pc := 412) C E dL_law_412 h (fun v69 h => ?_)
          refine r_callVI (pc := 413) (As := [.int v69]) (st := [.int v68]) (hc := by omega) (hsl := by omega) C cs_L_44_X6_hours h (fun _ _ e => w_X6_hours (Nat.le_refl 8) e) (fun _ _ e => t_X6_hours e) (Nat.le_trans (Nat.le_of_ble_eq_true rfl) hd) (Nat.le_of_ble_eq_true rfl) dL_law_413 (fun v71 σ70 h => ?_)
          refine r_icmpeq (pc := 416) (tgt := 1069) C dL_law_416 (by decide) h (fun h => ?_) (fun h => ?_)
          · refine r_pick (lv' := [(0, .ref b), (1, rv B a1), (2, rv B a2), (3, .int z3)]) [0, 1, 2, 3] rfl ?_
            exact hk9 _ _ _ (by omega) (by omega) h
          · refine r_iconst (pc := 419) (v := 0) C dL_law_419 (by decide) ?_
            exact r_lret (pc := 420) C E dL_law_420 h (by omega) (by omega)
        rw [if_neg c6_33] at h
        by_cases c7_33 : (v7 &&& 63) = 7
        · rw [if_pos c7_33] at h
          refine r_tswE (pc := 33) (tgt := 421) C dL_law_33 c7_33 (by decide) (by decide) rfl (by decide) ?_
          refine r_aload_n (pc := 421) (i := 1) C dL_law_421 rfl rfl ?_
          refine r_aloadR_n (pc := 422) (i := 0) C dL_law_422 rfl rfl ?_
          refine r_iload_n (pc := 423) (i := 3) C dL_law_423 rfl rfl ?_
          refine r_iconst (pc := 424) (v := 1) C dL_law_424 (by decide) ?_
          refine r_iadd (pc := 425) C dL_law_425 ?_
          refine r_scri (pc := 426) C E dL_law_426 h (fun v72 h => ?_)
          refine r_aloadR_n (pc := 427) (i := 0) C dL_law_427 rfl rfl ?_
          refine r_iload_n (pc := 428) (i := 3) C dL_law_428 rfl rfl ?_
          refine r_iconst (pc := 429) (v := 2) C dL_law_429 (by decide) ?_
          refine r_iadd (pc := 430) C dL_law_430 ?_
          refine r_scri (pc := 431) C E dL_law_431 h (fun v73 h => ?_)
          refine r_callVI (pc := 432) (As := [.int v72, .int v73]) (st := []) (hc := by omega) (hsl := by omega) C cs_L_45_X0_tried h (fun _ _ e => w_X0_tried (Nat.le_refl 138) e) (fun _ _ e => t_X0_tried e) (Nat.le_trans (Nat.le_of_ble_eq_true rfl) hd) (Nat.le_of_ble_eq_true rfl) dL_law_432 (fun v75 σ74 h => ?_)
          refine r_aload_n (pc := 435) (i := 2) C dL_law_435 rfl rfl ?_
          refine r_aloadR_n (pc := 436) (i := 0) C dL_law_436 rfl rfl ?_
          refine r_iload_n (pc := 437) (i := 3) C dL_law_437 rfl rfl ?_
          refine r_iconst (pc := 438) (v := 1) C dL_law_438 (by decide) ?_
          refine r_iadd (pc := 439) C dL_law_439 ?_
          refine r_scri (pc := 440) C E dL_law_440 h (fun v76 h => ?_)
          refine r_aloadR_n (pc := 441) (i := 0) C dL_law_441 rfl rfl ?_
          refine r_iload_n (pc := 442) (i := 3) C dL_law_442 rfl rfl ?_
          refine r_iconst (pc := 443) (v := 2) C dL_law_443 (by decide) ?_
          refine r_iadd (pc := 444) C dL_law_444 ?_
          refine r_scri (pc := 445) C E dL_law_445 h (fun v77 h => ?_)
          refine r_callVI (pc := 446) (As := [.int v76, .int v77]) (st := [.int v75]) (hc := by omega) (hsl := by omega) C cs_L_49_X6_tried h (fun _ _ e => w_X6_tried (Nat.le_refl 8) e) (fun _ _ e => t_X6_tried e) (Nat.le_trans (Nat.le_of_ble_eq_true rfl) hd) (Nat.le_of_ble_eq_true rfl) dL_law_446 (fun v79 σ78 h => ?_)
          refine r_icmpeq (pc := 449) (tgt := 1069) C dL_law_449 (by decide) h (fun h => ?_) (fun h => ?_)
          · refine r_pick (lv' := [(0, .ref b), (1, rv B a1), (2, rv B a2), (3, .int z3)]) [0, 1, 2, 3] rfl ?_
            exact hk9 _ _ _ (by omega) (by omega) h
          · refine r_iconst (pc := 452) (v := 0) C dL_law_452 (by decide) ?_
            exact r_lret (pc := 453) C E dL_law_453 h (by omega) (by omega)
        rw [if_neg c7_33] at h
        by_cases c8_33 : (v7 &&& 63) = 8
        · rw [if_pos c8_33] at h
          refine r_tswE (pc := 33) (tgt := 454) C dL_law_33 c8_33 (by decide) (by decide) rfl (by decide) ?_
          refine r_aload_n (pc := 454) (i := 1) C dL_law_454 rfl rfl ?_
          refine r_aloadR_n (pc := 455) (i := 0) C dL_law_455 rfl rfl ?_
          refine r_iload_n (pc := 456) (i := 3) C dL_law_456 rfl rfl ?_
          refine r_iconst (pc := 457) (v := 1) C dL_law_457 (by decide) ?_
          refine r_iadd (pc := 458) C dL_law_458 ?_
          refine r_scri (pc := 459) C E dL_law_459 h (fun v80 h => ?_)
          refine r_aloadR_n (pc := 460) (i := 0) C dL_law_460 rfl rfl ?_
          refine r_iload_n (pc := 461) (i := 3) C dL_law_461 rfl rfl ?_
          refine r_iconst (pc := 462) (v := 2) C dL_law_462 (by decide) ?_
          refine r_iadd (pc := 463) C dL_law_463 ?_
          refine r_scri (pc := 464) C E dL_law_464 h (fun v81 h => ?_)
          refine r_callVI (pc := 465) (As := [.int v80, .int v81]) (st := []) (hc := by omega) (hsl := by omega) C cs_L_50_X0_personIs h (fun _ _ e => w_X0_personIs (Nat.le_refl 3) e) (fun _ _ e => t_X0_personIs e) (Nat.le_trans (Nat.le_of_ble_eq_true rfl) hd) (Nat.le_of_ble_eq_true rfl) dL_law_465 (fun v83 σ82 h => ?_)
          refine r_aload_n (pc := 468) (i := 2) C dL_law_468 rfl rfl ?_
          refine r_aloadR_n (pc := 469) (i := 0) C dL_law_469 rfl rfl ?_
          refine r_iload_n (pc := 470) (i := 3) C dL_law_470 rfl rfl ?_
          refine r_iconst (pc := 471) (v := 1) C dL_law_471 (by decide) ?_
          refine r_iadd (pc := 472) C dL_law_472 ?_
          refine r_scri (pc := 473) C E dL_law_473 h (fun v84 h => ?_)
          refine r_aloadR_n (pc := 474) (i := 0) C dL_law_474 rfl rfl ?_
          refine r_iload_n (pc := 475) (i := 3) C dL_law_475 rfl rfl ?_
          refine r_iconst (pc := 476) (v := 2) C dL_law_476 (by decide) ?_
          refine r_iadd (pc := 477) C dL_law_477 ?_
          refine r_scri (pc := 478) C E dL_law_478 h (fun v85 h => ?_)
          refine r_callVI (pc := 479) (As := [.int v84, .int v85]) (st := [.int v83]) (hc := by omega) (hsl := by omega) C cs_L_53_X6_personIs h (fun _ _ e => w_X6_personIs (Nat.le_refl 2) e) (fun _ _ e => t_X6_personIs e) (Nat.le_trans (Nat.le_of_ble_eq_true rfl) hd) (Nat.le_of_ble_eq_true rfl) dL_law_479 (fun v87 σ86 h => ?_)
          refine r_icmpeq (pc := 482) (tgt := 1069) C dL_law_482 (by decide) h (fun h => ?_) (fun h => ?_)
          · refine r_pick (lv' := [(0, .ref b), (1, rv B a1), (2, rv B a2), (3, .int z3)]) [0, 1, 2, 3] rfl ?_
            exact hk9 _ _ _ (by omega) (by omega) h
          · refine r_iconst (pc := 485) (v := 0) C dL_law_485 (by decide) ?_
            exact r_lret (pc := 486) C E dL_law_486 h (by omega) (by omega)
        rw [if_neg c8_33] at h
        by_cases c9_33 : (v7 &&& 63) = 9
        · rw [if_pos c9_33] at h
          refine r_tswE (pc := 33) (tgt := 487) C dL_law_33 c9_33 (by decide) (by decide) rfl (by decide) ?_
          refine r_aload_n (pc := 487) (i := 1) C dL_law_487 rfl rfl ?_
          refine r_aloadR_n (pc := 488) (i := 0) C dL_law_488 rfl rfl ?_
          refine r_iload_n (pc := 489) (i := 3) C dL_law_489 rfl rfl ?_
          refine r_iconst (pc := 490) (v := 1) C dL_law_490 (by decide) ?_
          refine r_iadd (pc := 491) C dL_law_491 ?_
          refine r_scri (pc := 492) C E dL_law_492 h (fun v88 h => ?_)
          refine r_aloadR_n (pc := 493) (i := 0) C dL_law_493 rfl rfl ?_
          refine r_iload_n (pc := 494) (i := 3) C dL_law_494 rfl rfl ?_
          refine r_iconst (pc := 495) (v := 2) C dL_law_495 (by decide) ?_
          refine r_iadd (pc := 496) C dL_law_496 ?_
          refine r_scri (pc := 497) C E dL_law_497 h (fun v89 h => ?_)
          refine r_callVI (pc := 498) (As := [.int v88, .int v89]) (st := []) (hc := by omega) (hsl := by omega) C cs_L_54_X0_owes h (fun _ _ e => w_X0_owes (Nat.le_refl 3) e) (fun _ _ e => t_X0_owes e) (Nat.le_trans (Nat.le_of_ble_eq_true rfl) hd) (Nat.le_of_ble_eq_true rfl) dL_law_498 (fun v91 σ90 h => ?_)
          refine r_aload_n (pc := 501) (i := 2) C dL_law_501 rfl rfl ?_
          refine r_aloadR_n (pc := 502) (i := 0) C dL_law_502 rfl rfl ?_
          refine r_iload_n (pc := 503) (i := 3) C dL_law_503 rfl rfl ?_
          refine r_iconst (pc := 504) (v := 1) C dL_law_504 (by decide) ?_
          refine r_iadd (pc := 505) C dL_law_505 ?_
          refine r_scri (pc := 506) C E dL_law_506 h (fun v92 h => ?_)
          refine r_aloadR_n (pc := 507) (i := 0) C dL_law_507 rfl rfl ?_
          refine r_iload_n (pc := 508) (i := 3) C dL_law_508 rfl rfl ?_
          refine r_iconst (pc := 509) (v := 2) C dL_law_509 (by decide) ?_
          refine r_iadd (pc := 510) C dL_law_510 ?_
          refine r_scri (pc := 511) C E dL_law_511 h (fun v93 h => ?_)
          refine r_callVI (pc := 512) (As := [.int v92, .int v93]) (st := [.int v91]) (hc := by omega) (hsl := by omega) C cs_L_57_X6_owes h (fun _ _ e => w_X6_owes (Nat.le_refl 3) e) (fun _ _ e => t_X6_owes e) (Nat.le_trans (Nat.le_of_ble_eq_true rfl) hd) (Nat.le_of_ble_eq_true rfl) dL_law_512 (fun v95 σ94 h => ?_)
          refine r_icmpeq (pc := 515) (tgt := 1069) C dL_law_515 (by decide) h (fun h => ?_) (fun h => ?_)
          · refine r_pick (lv' := [(0, .ref b), (1, rv B a1), (2, rv B a2), (3, .int z3)]) [0, 1, 2, 3] rfl ?_
            exact hk9 _ _ _ (by omega) (by omega) h
          · refine r_iconst (pc := 518) (v := 0) C dL_law_518 (by decide) ?_
            exact r_lret (pc := 519) C E dL_law_519 h (by omega) (by omega)
        rw [if_neg c9_33] at h
        by_cases c10_33 : (v7 &&& 63) = 10
        · rw [if_pos c10_33] at h
          refine r_tswE (pc := 33) (tgt := 520) C dL_law_33 c10_33 (by decide) (by decide) rfl (by decide) ?_
          refine r_aload_n (pc := 520) (i := 1) C dL_law_520 rfl rfl ?_
          refine r_aloadR_n (pc := 521) (i := 0) C dL_law_521 rfl rfl ?_
          refine r_iload_n (pc := 522) (i := 3) C dL_law_522 rfl rfl ?_
          refine r_iconst (pc := 523) (v := 1) C dL_law_523 (by decide) ?_
          refine r_iadd (pc := 524) C dL_law_524 ?_
          refine r_scri (pc := 525) C E dL_law_525 h (fun v96 h => ?_)
          refine r_aloadR_n (pc := 526) (i := 0) C dL_law_526 rfl rfl ?_
          refine r_iload_n (pc := 527) (i := 3) C dL_law_527 rfl rfl ?_
          refine r_iconst (pc := 528) (v := 2) C dL_law_528 (by decide) ?_
          refine r_iadd (pc := 529) C dL_law_529 ?_
          refine r_scri (pc := 530) C E dL_law_530 h (fun v97 h => ?_)
          refine r_callVI (pc := 531) (As := [.int v96, .int v97]) (st := []) (hc := by omega) (hsl := by omega) C cs_L_58_X0_likes h (fun _ _ e => w_X0_likes (Nat.le_refl 134) e) (fun _ _ e => t_X0_likes e) (Nat.le_trans (Nat.le_of_ble_eq_true rfl) hd) (Nat.le_of_ble_eq_true rfl) dL_law_531 (fun v99 σ98 h => ?_)
          refine r_aload_n (pc := 534) (i := 2) C dL_law_534 rfl rfl ?_
          refine r_aloadR_n (pc := 535) (i := 0) C dL_law_535 rfl rfl ?_
          refine r_iload_n (pc := 536) (i := 3) C dL_law_536 rfl rfl ?_
          refine r_iconst (pc := 537) (v := 1) C dL_law_537 (by decide) ?_
          refine r_iadd (pc := 538) C dL_law_538 ?_
          refine r_scri (pc := 539) C E dL_law_539 h (fun v100 h => ?_)
          refine r_aloadR_n (pc := 540) (i := 0) C dL_law_540 rfl rfl ?_
          refine r_iload_n (pc := 541) (i := 3) C dL_law_541 rfl rfl ?_
          refine r_iconst (pc := 542) (v := 2) C dL_law_542 (by decide) ?_
          refine r_iadd (pc := 543) C dL_law_543 ?_
          refine r_scri (pc := 544) C E dL_law_544 h (fun v101 h => ?_)
          refine r_callVI (pc := 545) (As := [.int v100, .int v101]) (st := [.int v99]) (hc := by omega) (hsl := by omega) C cs_L_61_X6_likes h (fun _ _ e => w_X6_likes (Nat.le_refl 4) e) (fun _ _ e => t_X6_likes e) (Nat.le_trans (Nat.le_of_ble_eq_true rfl) hd) (Nat.le_of_ble_eq_true rfl) dL_law_545 (fun v103 σ102 h => ?_)
          refine r_icmpeq (pc := 548) (tgt := 1069) C dL_law_548 (by decide) h (fun h => ?_) (fun h => ?_)
          · refine r_pick (lv' := [(0, .ref b), (1, rv B a1), (2, rv B a2), (3, .int z3)]) [0, 1, 2, 3] rfl ?_
            exact hk9 _ _ _ (by omega) (by omega) h
          · refine r_iconst (pc := 551) (v := 0) C dL_law_551 (by decide) ?_
            exact r_lret (pc := 552) C E dL_law_552 h (by omega) (by omega)
        rw [if_neg c10_33] at h
        by_cases c11_33 : (v7 &&& 63) = 11
        · rw [if_pos c11_33] at h
          refine r_tswE (pc := 33) (tgt := 553) C dL_law_33 c11_33 (by decide) (by decide) rfl (by decide) ?_
          refine r_aload_n (pc := 553) (i := 1) C dL_law_553 rfl rfl ?_
          refine r_aloadR_n (pc := 554) (i := 0) C dL_law_554 rfl rfl ?_
          refine r_iload_n (pc := 555) (i := 3) C dL_law_555 rfl rfl ?_
          refine r_iconst (pc := 556) (v := 1) C dL_law_556 (by decide) ?_
          refine r_iadd (pc := 557) C dL_law_557 ?_
          refine r_scri (pc := 558) C E dL_law_558 h (fun v104 h => ?_)
          refine r_aloadR_n (pc := 559) (i := 0) C dL_law_559 rfl rfl ?_
          refine r_iload_n (pc := 560) (i := 3) C dL_law_560 rfl rfl ?_
          refine r_iconst (pc := 561) (v := 2) C dL_law_561 (by decide) ?_
          refine r_iadd (pc := 562) C dL_law_562 ?_
          refine r_scri (pc := 563) C E dL_law_563 h (fun v105 h => ?_)
          obtain ⟨hrm, h⟩ := r_ck h
          refine r_callVIm (pc := 564) (As := [.int v104, .int v105]) (st := []) C cs_L_62_X0_route h (fun _ _ e => w_X0_route (Nat.le_refl 198) e) (fun _ _ e => t_X0_route e) (Nat.le_trans (Nat.le_of_ble_eq_true rfl) hd) hrm.1 hrm.2 rfl rfl (Nat.le_of_ble_eq_true rfl) dL_law_564 (fun v106 σ107 h => ?_)
          refine r_aload_n (pc := 567) (i := 2) C dL_law_567 rfl rfl ?_
          refine r_aloadR_n (pc := 568) (i := 0) C dL_law_568 rfl rfl ?_
          refine r_iload_n (pc := 569) (i := 3) C dL_law_569 rfl rfl ?_
          refine r_iconst (pc := 570) (v := 1) C dL_law_570 (by decide) ?_
          refine r_iadd (pc := 571) C dL_law_571 ?_
          refine r_scri (pc := 572) C E dL_law_572 h (fun v108 h => ?_)
          refine r_aloadR_n (pc := 573) (i := 0) C dL_law_573 rfl rfl ?_
          refine r_iload_n (pc := 574) (i := 3) C dL_law_574 rfl rfl ?_
          refine r_iconst (pc := 575) (v := 2) C dL_law_575 (by decide) ?_
          refine r_iadd (pc := 576) C dL_law_576 ?_
          refine r_scri (pc := 577) C E dL_law_577 h (fun v109 h => ?_)
          refine r_callVI (pc := 578) (As := [.int v108, .int v109]) (st := [.int v106]) (hc := by omega) (hsl := by omega) C cs_L_65_X6_route h (fun _ _ e => w_X6_route (Nat.le_refl 4) e) (fun _ _ e => t_X6_route e) (Nat.le_trans (Nat.le_of_ble_eq_true rfl) hd) (Nat.le_of_ble_eq_true rfl) dL_law_578 (fun v111 σ110 h => ?_)
          refine r_icmpeq (pc := 581) (tgt := 1069) C dL_law_581 (by decide) h (fun h => ?_) (fun h => ?_)
          · refine r_pick (lv' := [(0, .ref b), (1, rv B a1), (2, rv B a2), (3, .int z3)]) [0, 1, 2, 3] rfl ?_
            exact hk9 _ _ _ (by omega) (by omega) h
          · refine r_iconst (pc := 584) (v := 0) C dL_law_584 (by decide) ?_
            exact r_lret (pc := 585) C E dL_law_585 h (by omega) (by omega)
        rw [if_neg c11_33] at h
        by_cases c12_33 : (v7 &&& 63) = 12
        · rw [if_pos c12_33] at h
          refine r_tswE (pc := 33) (tgt := 586) C dL_law_33 c12_33 (by decide) (by decide) rfl (by decide) ?_
          refine r_aload_n (pc := 586) (i := 1) C dL_law_586 rfl rfl ?_
          refine r_aloadR_n (pc := 587) (i := 0) C dL_law_587 rfl rfl ?_
          refine r_iload_n (pc := 588) (i := 3) C dL_law_588 rfl rfl ?_
          refine r_iconst (pc := 589) (v := 1) C dL_law_589 (by decide) ?_
          refine r_iadd (pc := 590) C dL_law_590 ?_
          refine r_scri (pc := 591) C E dL_law_591 h (fun v112 h => ?_)
          obtain ⟨hrm, h⟩ := r_ck h
          refine r_callVIm (pc := 592) (As := [.int v112]) (st := []) C cs_L_66_X0_walk h (fun _ _ e => w_X0_walk (Nat.le_refl 198) e) (fun _ _ e => t_X0_walk e) (Nat.le_trans (Nat.le_of_ble_eq_true rfl) hd) hrm.1 hrm.2 rfl rfl (Nat.le_of_ble_eq_true rfl) dL_law_592 (fun v113 σ114 h => ?_)
          refine r_aload_n (pc := 595) (i := 2) C dL_law_595 rfl rfl ?_
          refine r_aloadR_n (pc := 596) (i := 0) C dL_law_596 rfl rfl ?_
          refine r_iload_n (pc := 597) (i := 3) C dL_law_597 rfl rfl ?_
          refine r_iconst (pc := 598) (v := 1) C dL_law_598 (by decide) ?_
          refine r_iadd (pc := 599) C dL_law_599 ?_
          refine r_scri (pc := 600) C E dL_law_600 h (fun v115 h => ?_)
          refine r_callVI (pc := 601) (As := [.int v115]) (st := [.int v113]) (hc := by omega) (hsl := by omega) C cs_L_69_X6_walk h (fun _ _ e => w_X6_walk (Nat.le_refl 4) e) (fun _ _ e => t_X6_walk e) (Nat.le_trans (Nat.le_of_ble_eq_true rfl) hd) (Nat.le_of_ble_eq_true rfl) dL_law_601 (fun v117 σ116 h => ?_)
          refine r_icmpeq (pc := 604) (tgt := 1069) C dL_law_604 (by decide) h (fun h => ?_) (fun h => ?_)
          · refine r_pick (lv' := [(0, .ref b), (1, rv B a1), (2, rv B a2), (3, .int z3)]) [0, 1, 2, 3] rfl ?_
            exact hk9 _ _ _ (by omega) (by omega) h
          · refine r_iconst (pc := 607) (v := 0) C dL_law_607 (by decide) ?_
            exact r_lret (pc := 608) C E dL_law_608 h (by omega) (by omega)
        rw [if_neg c12_33] at h
        by_cases c13_33 : (v7 &&& 63) = 13
        · rw [if_pos c13_33] at h
          refine r_tswE (pc := 33) (tgt := 609) C dL_law_33 c13_33 (by decide) (by decide) rfl (by decide) ?_
          refine r_aload_n (pc := 609) (i := 1) C dL_law_609 rfl rfl ?_
          refine r_aloadR_n (pc := 610) (i := 0) C dL_law_610 rfl rfl ?_
          refine r_iload_n (pc := 611) (i := 3) C dL_law_611 rfl rfl ?_
          refine r_iconst (pc := 612) (v := 1) C dL_law_612 (by decide) ?_
          refine r_iadd (pc := 613) C dL_law_613 ?_
          refine r_scri (pc := 614) C E dL_law_614 h (fun v118 h => ?_)
          refine r_callVI (pc := 615) (As := [.int v118]) (st := []) (hc := by omega) (hsl := by omega) C cs_L_70_X0_tour h (fun _ _ e => w_X0_tour (Nat.le_refl 6) e) (fun _ _ e => t_X0_tour e) (Nat.le_trans (Nat.le_of_ble_eq_true rfl) hd) (Nat.le_of_ble_eq_true rfl) dL_law_615 (fun v120 σ119 h => ?_)
          refine r_aload_n (pc := 618) (i := 2) C dL_law_618 rfl rfl ?_
          refine r_aloadR_n (pc := 619) (i := 0) C dL_law_619 rfl rfl ?_
          refine r_iload_n (pc := 620) (i := 3) C dL_law_620 rfl rfl ?_
          refine r_iconst (pc := 621) (v := 1) C dL_law_621 (by decide) ?_
          refine r_iadd (pc := 622) C dL_law_622 ?_
          refine r_scri (pc := 623) C E dL_law_623 h (fun v121 h => ?_)
          refine r_callVI (pc := 624) (As := [.int v121]) (st := [.int v120]) (hc := by omega) (hsl := by omega) C cs_L_73_X6_tour h (fun _ _ e => w_X6_tour (Nat.le_refl 5) e) (fun _ _ e => t_X6_tour e) (Nat.le_trans (Nat.le_of_ble_eq_true rfl) hd) (Nat.le_of_ble_eq_true rfl) dL_law_624 (fun v123 σ122 h => ?_)
          refine r_icmpeq (pc := 627) (tgt := 1069) C dL_law_627 (by decide) h (fun h => ?_) (fun h => ?_)
          · refine r_pick (lv' := [(0, .ref b), (1, rv B a1), (2, rv B a2), (3, .int z3)]) [0, 1, 2, 3] rfl ?_
            exact hk9 _ _ _ (by omega) (by omega) h
          · refine r_iconst (pc := 630) (v := 0) C dL_law_630 (by decide) ?_
            exact r_lret (pc := 631) C E dL_law_631 h (by omega) (by omega)
        rw [if_neg c13_33] at h
        by_cases c14_33 : (v7 &&& 63) = 14
        · rw [if_pos c14_33] at h
          refine r_tswE (pc := 33) (tgt := 632) C dL_law_33 c14_33 (by decide) (by decide) rfl (by decide) ?_
          refine r_aload_n (pc := 632) (i := 1) C dL_law_632 rfl rfl ?_
          refine r_aloadR_n (pc := 633) (i := 0) C dL_law_633 rfl rfl ?_
          refine r_iload_n (pc := 634) (i := 3) C dL_law_634 rfl rfl ?_
          refine r_iconst (pc := 635) (v := 1) C dL_law_635 (by decide) ?_
          refine r_iadd (pc := 636) C dL_law_636 ?_
          refine r_scri (pc := 637) C E dL_law_637 h (fun v124 h => ?_)
          refine r_callVI (pc := 638) (As := [.int v124]) (st := []) (hc := by omega) (hsl := by omega) C cs_L_74_X0_most h (fun _ _ e => w_X0_most (Nat.le_refl 65) e) (fun _ _ e => t_X0_most e) (Nat.le_trans (Nat.le_of_ble_eq_true rfl) hd) (Nat.le_of_ble_eq_true rfl) dL_law_638 (fun v126 σ125 h => ?_)
          refine r_aload_n (pc := 641) (i := 2) C dL_law_641 rfl rfl ?_
          refine r_aloadR_n (pc := 642) (i := 0) C dL_law_642 rfl rfl ?_
          refine r_iload_n (pc := 643) (i := 3) C dL_law_643 rfl rfl ?_
          refine r_iconst (pc := 644) (v := 1) C dL_law_644 (by decide) ?_
          refine r_iadd (pc := 645) C dL_law_645 ?_
          refine r_scri (pc := 646) C E dL_law_646 h (fun v127 h => ?_)
          refine r_callVI (pc := 647) (As := [.int v127]) (st := [.int v126]) (hc := by omega) (hsl := by omega) C cs_L_77_X6_most h (fun _ _ e => w_X6_most (Nat.le_refl 4) e) (fun _ _ e => t_X6_most e) (Nat.le_trans (Nat.le_of_ble_eq_true rfl) hd) (Nat.le_of_ble_eq_true rfl) dL_law_647 (fun v129 σ128 h => ?_)
          refine r_icmpeq (pc := 650) (tgt := 1069) C dL_law_650 (by decide) h (fun h => ?_) (fun h => ?_)
          · refine r_pick (lv' := [(0, .ref b), (1, rv B a1), (2, rv B a2), (3, .int z3)]) [0, 1, 2, 3] rfl ?_
            exact hk9 _ _ _ (by omega) (by omega) h
          · refine r_iconst (pc := 653) (v := 0) C dL_law_653 (by decide) ?_
            exact r_lret (pc := 654) C E dL_law_654 h (by omega) (by omega)
        rw [if_neg c14_33] at h
        by_cases c15_33 : (v7 &&& 63) = 15
        · rw [if_pos c15_33] at h
          refine r_tswE (pc := 33) (tgt := 655) C dL_law_33 c15_33 (by decide) (by decide) rfl (by decide) ?_
          refine r_aload_n (pc := 655) (i := 1) C dL_law_655 rfl rfl ?_
          refine r_aloadR_n (pc := 656) (i := 0) C dL_law_656 rfl rfl ?_
          refine r_iload_n (pc := 657) (i := 3) C dL_law_657 rfl rfl ?_
          refine r_iconst (pc := 658) (v := 1) C dL_law_658 (by decide) ?_
          refine r_iadd (pc := 659) C dL_law_659 ?_
          refine r_scri (pc := 660) C E dL_law_660 h (fun v130 h => ?_)
          refine r_aloadR_n (pc := 661) (i := 0) C dL_law_661 rfl rfl ?_
          refine r_iload_n (pc := 662) (i := 3) C dL_law_662 rfl rfl ?_
          refine r_iconst (pc := 663) (v := 2) C dL_law_663 (by decide) ?_
          refine r_iadd (pc := 664) C dL_law_664 ?_
          refine r_scri (pc := 665) C E dL_law_665 h (fun v131 h => ?_)
          refine r_callVI (pc := 666) (As := [.int v130, .int v131]) (st := []) (hc := by omega) (hsl := by omega) C cs_L_78_X0_back h (fun _ _ e => w_X0_back (Nat.le_refl 3) e) (fun _ _ e => t_X0_back e) (Nat.le_trans (Nat.le_of_ble_eq_true rfl) hd) (Nat.le_of_ble_eq_true rfl) dL_law_666 (fun v133 σ132 h => ?_)
          refine r_aload_n (pc := 669) (i := 2) C dL_law_669 rfl rfl ?_
          refine r_aloadR_n (pc := 670) (i := 0) C dL_law_670 rfl rfl ?_
          refine r_iload_n (pc := 671) (i := 3) C dL_law_671 rfl rfl ?_
          refine r_iconst (pc := 672) (v := 1) C dL_law_672 (by decide) ?_
          refine r_iadd (pc := 673) C dL_law_673 ?_
          refine r_scri (pc := 674) C E dL_law_674 h (fun v134 h => ?_)
          refine r_aloadR_n (pc := 675) (i := 0) C dL_law_675 rfl rfl ?_
          refine r_iload_n (pc := 676) (i := 3) C dL_law_676 rfl rfl ?_
          refine r_iconst (pc := 677) (v := 2) C dL_law_677 (by decide) ?_
          refine r_iadd (pc := 678) C dL_law_678 ?_
          refine r_scri (pc := 679) C E dL_law_679 h (fun v135 h => ?_)
          refine r_callVI (pc := 680) (As := [.int v134, .int v135]) (st := [.int v133]) (hc := by omega) (hsl := by omega) C cs_L_81_X6_back h (fun _ _ e => w_X6_back (Nat.le_refl 3) e) (fun _ _ e => t_X6_back e) (Nat.le_trans (Nat.le_of_ble_eq_true rfl) hd) (Nat.le_of_ble_eq_true rfl) dL_law_680 (fun v137 σ136 h => ?_)
          refine r_icmpeq (pc := 683) (tgt := 1069) C dL_law_683 (by decide) h (fun h => ?_) (fun h => ?_)
          · refine r_pick (lv' := [(0, .ref b), (1, rv B a1), (2, rv B a2), (3, .int z3)]) [0, 1, 2, 3] rfl ?_
            exact hk9 _ _ _ (by omega) (by omega) h
          · refine r_iconst (pc := 686) (v := 0) C dL_law_686 (by decide) ?_
            exact r_lret (pc := 687) C E dL_law_687 h (by omega) (by omega)
        rw [if_neg c15_33] at h
        by_cases c16_33 : (v7 &&& 63) = 16
        · rw [if_pos c16_33] at h
          refine r_tswE (pc := 33) (tgt := 688) C dL_law_33 c16_33 (by decide) (by decide) rfl (by decide) ?_
          refine r_aload_n (pc := 688) (i := 1) C dL_law_688 rfl rfl ?_
          refine r_aloadR_n (pc := 689) (i := 0) C dL_law_689 rfl rfl ?_
          refine r_iload_n (pc := 690) (i := 3) C dL_law_690 rfl rfl ?_
          refine r_iconst (pc := 691) (v := 1) C dL_law_691 (by decide) ?_
          refine r_iadd (pc := 692) C dL_law_692 ?_
          refine r_scri (pc := 693) C E dL_law_693 h (fun v138 h => ?_)
          refine r_callVI (pc := 694) (As := [.int v138]) (st := []) (hc := by omega) (hsl := by omega) C cs_L_82_X0_even h (fun _ _ e => w_X0_even (Nat.le_refl 67) e) (fun _ _ e => t_X0_even e) (Nat.le_trans (Nat.le_of_ble_eq_true rfl) hd) (Nat.le_of_ble_eq_true rfl) dL_law_694 (fun v140 σ139 h => ?_)
          refine r_aload_n (pc := 697) (i := 2) C dL_law_697 rfl rfl ?_
          refine r_aloadR_n (pc := 698) (i := 0) C dL_law_698 rfl rfl ?_
          refine r_iload_n (pc := 699) (i := 3) C dL_law_699 rfl rfl ?_
          refine r_iconst (pc := 700) (v := 1) C dL_law_700 (by decide) ?_
          refine r_iadd (pc := 701) C dL_law_701 ?_
          refine r_scri (pc := 702) C E dL_law_702 h (fun v141 h => ?_)
          refine r_callVI (pc := 703) (As := [.int v141]) (st := [.int v140]) (hc := by omega) (hsl := by omega) C cs_L_85_X6_even h (fun _ _ e => w_X6_even (Nat.le_refl 4) e) (fun _ _ e => t_X6_even e) (Nat.le_trans (Nat.le_of_ble_eq_true rfl) hd) (Nat.le_of_ble_eq_true rfl) dL_law_703 (fun v143 σ142 h => ?_)
          refine r_icmpeq (pc := 706) (tgt := 1069) C dL_law_706 (by decide) h (fun h => ?_) (fun h => ?_)
          · refine r_pick (lv' := [(0, .ref b), (1, rv B a1), (2, rv B a2), (3, .int z3)]) [0, 1, 2, 3] rfl ?_
            exact hk9 _ _ _ (by omega) (by omega) h
          · refine r_iconst (pc := 709) (v := 0) C dL_law_709 (by decide) ?_
            exact r_lret (pc := 710) C E dL_law_710 h (by omega) (by omega)
        rw [if_neg c16_33] at h
        by_cases c17_33 : (v7 &&& 63) = 17
        · rw [if_pos c17_33] at h
          refine r_tswE (pc := 33) (tgt := 711) C dL_law_33 c17_33 (by decide) (by decide) rfl (by decide) ?_
          refine r_aload_n (pc := 711) (i := 1) C dL_law_711 rfl rfl ?_
          refine r_aloadR_n (pc := 712) (i := 0) C dL_law_712 rfl rfl ?_
          refine r_iload_n (pc := 713) (i := 3) C dL_law_713 rfl rfl ?_
          refine r_iconst (pc := 714) (v := 1) C dL_law_714 (by decide) ?_
          refine r_iadd (pc := 715) C dL_law_715 ?_
          refine r_scri (pc := 716) C E dL_law_716 h (fun v144 h => ?_)
          refine r_callVI (pc := 717) (As := [.int v144]) (st := []) (hc := by omega) (hsl := by omega) C cs_L_86_X0_turned h (fun _ _ e => w_X0_turned (Nat.le_refl 2) e) (fun _ _ e => t_X0_turned e) (Nat.le_trans (Nat.le_of_ble_eq_true rfl) hd) (Nat.le_of_ble_eq_true rfl) dL_law_717 (fun v146 σ145 h => ?_)
          refine r_aload_n (pc := 720) (i := 2) C dL_law_720 rfl rfl ?_
          refine r_aloadR_n (pc := 721) (i := 0) C dL_law_721 rfl rfl ?_
          refine r_iload_n (pc := 722) (i := 3) C dL_law_722 rfl rfl ?_
          refine r_iconst (pc := 723) (v := 1) C dL_law_723 (by decide) ?_
          refine r_iadd (pc := 724) C dL_law_724 ?_
          refine r_scri (pc := 725) C E dL_law_725 h (fun v147 h => ?_)
          refine r_callVI (pc := 726) (As := [.int v147]) (st := [.int v146]) (hc := by omega) (hsl := by omega) C cs_L_89_X6_turned h (fun _ _ e => w_X6_turned (Nat.le_refl 4) e) (fun _ _ e => t_X6_turned e) (Nat.le_trans (Nat.le_of_ble_eq_true rfl) hd) (Nat.le_of_ble_eq_true rfl) dL_law_726 (fun v149 σ148 h => ?_)
          refine r_icmpeq (pc := 729) (tgt := 1069) C dL_law_729 (by decide) h (fun h => ?_) (fun h => ?_)
          · refine r_pick (lv' := [(0, .ref b), (1, rv B a1), (2, rv B a2), (3, .int z3)]) [0, 1, 2, 3] rfl ?_
            exact hk9 _ _ _ (by omega) (by omega) h
          · refine r_iconst (pc := 732) (v := 0) C dL_law_732 (by decide) ?_
            exact r_lret (pc := 733) C E dL_law_733 h (by omega) (by omega)
        rw [if_neg c17_33] at h
        by_cases c18_33 : (v7 &&& 63) = 18
        · rw [if_pos c18_33] at h
          refine r_tswE (pc := 33) (tgt := 734) C dL_law_33 c18_33 (by decide) (by decide) rfl (by decide) ?_
          refine r_aload_n (pc := 734) (i := 1) C dL_law_734 rfl rfl ?_
          refine r_aloadR_n (pc := 735) (i := 0) C dL_law_735 rfl rfl ?_
          refine r_iload_n (pc := 736) (i := 3) C dL_law_736 rfl rfl ?_
          refine r_iconst (pc := 737) (v := 1) C dL_law_737 (by decide) ?_
          refine r_iadd (pc := 738) C dL_law_738 ?_
          refine r_scri (pc := 739) C E dL_law_739 h (fun v150 h => ?_)
          refine r_callVI (pc := 740) (As := [.int v150]) (st := []) (hc := by omega) (hsl := by omega) C cs_L_90_X0_setOff h (fun _ _ e => w_X0_setOff (Nat.le_refl 2) e) (fun _ _ e => t_X0_setOff e) (Nat.le_trans (Nat.le_of_ble_eq_true rfl) hd) (Nat.le_of_ble_eq_true rfl) dL_law_740 (fun v152 σ151 h => ?_)
          refine r_aload_n (pc := 743) (i := 2) C dL_law_743 rfl rfl ?_
          refine r_aloadR_n (pc := 744) (i := 0) C dL_law_744 rfl rfl ?_
          refine r_iload_n (pc := 745) (i := 3) C dL_law_745 rfl rfl ?_
          refine r_iconst (pc := 746) (v := 1) C dL_law_746 (by decide) ?_
          refine r_iadd (pc := 747) C dL_law_747 ?_
          refine r_scri (pc := 748) C E dL_law_748 h (fun v153 h => ?_)
          refine r_callVI (pc := 749) (As := [.int v153]) (st := [.int v152]) (hc := by omega) (hsl := by omega) C cs_L_93_X6_setOff h (fun _ _ e => w_X6_setOff (Nat.le_refl 3) e) (fun _ _ e => t_X6_setOff e) (Nat.le_trans (Nat.le_of_ble_eq_true rfl) hd) (Nat.le_of_ble_eq_true rfl) dL_law_749 (fun v155 σ154 h => ?_)
          refine r_icmpeq (pc := 752) (tgt := 1069) C dL_law_752 (by decide) h (fun h => ?_) (fun h => ?_)
          · refine r_pick (lv' := [(0, .ref b), (1, rv B a1), (2, rv B a2), (3, .int z3)]) [0, 1, 2, 3] rfl ?_
            exact hk9 _ _ _ (by omega) (by omega) h
          · refine r_iconst (pc := 755) (v := 0) C dL_law_755 (by decide) ?_
            exact r_lret (pc := 756) C E dL_law_756 h (by omega) (by omega)
        rw [if_neg c18_33] at h
        by_cases c19_33 : (v7 &&& 63) = 19
        · rw [if_pos c19_33] at h
          refine r_tswE (pc := 33) (tgt := 757) C dL_law_33 c19_33 (by decide) (by decide) rfl (by decide) ?_
          refine r_aload_n (pc := 757) (i := 1) C dL_law_757 rfl rfl ?_
          refine r_callVI (pc := 758) (As := []) (st := []) (hc := by omega) (hsl := by omega) C cs_L_94_X0_fewest h (fun _ _ e => w_X0_fewest (Nat.le_refl 3) e) (fun _ _ e => t_X0_fewest e) (Nat.le_trans (Nat.le_of_ble_eq_true rfl) hd) (Nat.le_of_ble_eq_true rfl) dL_law_758 (fun v157 σ156 h => ?_)
          refine r_aload_n (pc := 761) (i := 2) C dL_law_761 rfl rfl ?_
          refine r_callVI (pc := 762) (As := []) (st := [.int v157]) (hc := by omega) (hsl := by omega) C cs_L_98_X6_fewest h (fun _ _ e => w_X6_fewest (Nat.le_refl 4) e) (fun _ _ e => t_X6_fewest e) (Nat.le_trans (Nat.le_of_ble_eq_true rfl) hd) (Nat.le_of_ble_eq_true rfl) dL_law_762 (fun v159 σ158 h => ?_)
          refine r_icmpeq (pc := 765) (tgt := 1069) C dL_law_765 (by decide) h (fun h => ?_) (fun h => ?_)
          · refine r_pick (lv' := [(0, .ref b), (1, rv B a1), (2, rv B a2), (3, .int z3)]) [0, 1, 2, 3] rfl ?_
            exact hk9 _ _ _ (by omega) (by omega) h
          · refine r_iconst (pc := 768) (v := 0) C dL_law_768 (by decide) ?_
            exact r_lret (pc := 769) C E dL_law_769 h (by omega) (by omega)
        rw [if_neg c19_33] at h
        by_cases c20_33 : (v7 &&& 63) = 20
        · rw [if_pos c20_33] at h
          refine r_tswE (pc := 33) (tgt := 770) C dL_law_33 c20_33 (by decide) (by decide) rfl (by decide) ?_
          refine r_aload_n (pc := 770) (i := 1) C dL_law_770 rfl rfl ?_
          refine r_aloadR_n (pc := 771) (i := 0) C dL_law_771 rfl rfl ?_
          refine r_iload_n (pc := 772) (i := 3) C dL_law_772 rfl rfl ?_
          refine r_iconst (pc := 773) (v := 1) C dL_law_773 (by decide) ?_
          refine r_iadd (pc := 774) C dL_law_774 ?_
          refine r_scri (pc := 775) C E dL_law_775 h (fun v160 h => ?_)
          refine r_callVI (pc := 776) (As := [.int v160]) (st := []) (hc := by omega) (hsl := by omega) C cs_L_99_X0_rings h (fun _ _ e => w_X0_rings (Nat.le_refl 4) e) (fun _ _ e => t_X0_rings e) (Nat.le_trans (Nat.le_of_ble_eq_true rfl) hd) (Nat.le_of_ble_eq_true rfl) dL_law_776 (fun v162 σ161 h => ?_)
          refine r_aload_n (pc := 779) (i := 2) C dL_law_779 rfl rfl ?_
          refine r_aloadR_n (pc := 780) (i := 0) C dL_law_780 rfl rfl ?_
          refine r_iload_n (pc := 781) (i := 3) C dL_law_781 rfl rfl ?_
          refine r_iconst (pc := 782) (v := 1) C dL_law_782 (by decide) ?_
          refine r_iadd (pc := 783) C dL_law_783 ?_
          refine r_scri (pc := 784) C E dL_law_784 h (fun v163 h => ?_)
          refine r_callVI (pc := 785) (As := [.int v163]) (st := [.int v162]) (hc := by omega) (hsl := by omega) C cs_L_102_X6_rings h (fun _ _ e => w_X6_rings (Nat.le_refl 4) e) (fun _ _ e => t_X6_rings e) (Nat.le_trans (Nat.le_of_ble_eq_true rfl) hd) (Nat.le_of_ble_eq_true rfl) dL_law_785 (fun v165 σ164 h => ?_)
          refine r_icmpeq (pc := 788) (tgt := 1069) C dL_law_788 (by decide) h (fun h => ?_) (fun h => ?_)
          · refine r_pick (lv' := [(0, .ref b), (1, rv B a1), (2, rv B a2), (3, .int z3)]) [0, 1, 2, 3] rfl ?_
            exact hk9 _ _ _ (by omega) (by omega) h
          · refine r_iconst (pc := 791) (v := 0) C dL_law_791 (by decide) ?_
            exact r_lret (pc := 792) C E dL_law_792 h (by omega) (by omega)
        rw [if_neg c20_33] at h
        by_cases c21_33 : (v7 &&& 63) = 21
        · rw [if_pos c21_33] at h
          refine r_tswE (pc := 33) (tgt := 793) C dL_law_33 c21_33 (by decide) (by decide) rfl (by decide) ?_
          refine r_aload_n (pc := 793) (i := 1) C dL_law_793 rfl rfl ?_
          refine r_callVI (pc := 794) (As := []) (st := []) (hc := by omega) (hsl := by omega) C cs_L_103_X0_off h (fun _ _ e => w_X0_off (Nat.le_refl 3) e) (fun _ _ e => t_X0_off e) (Nat.le_trans (Nat.le_of_ble_eq_true rfl) hd) (Nat.le_of_ble_eq_true rfl) dL_law_794 (fun v167 σ166 h => ?_)
          refine r_aload_n (pc := 797) (i := 2) C dL_law_797 rfl rfl ?_
          refine r_callVI (pc := 798) (As := []) (st := [.int v167]) (hc := by omega) (hsl := by omega) C cs_L_106_X6_off h (fun _ _ e => w_X6_off (Nat.le_refl 3) e) (fun _ _ e => t_X6_off e) (Nat.le_trans (Nat.le_of_ble_eq_true rfl) hd) (Nat.le_of_ble_eq_true rfl) dL_law_798 (fun v169 σ168 h => ?_)
          refine r_icmpeq (pc := 801) (tgt := 1069) C dL_law_801 (by decide) h (fun h => ?_) (fun h => ?_)
          · refine r_pick (lv' := [(0, .ref b), (1, rv B a1), (2, rv B a2), (3, .int z3)]) [0, 1, 2, 3] rfl ?_
            exact hk9 _ _ _ (by omega) (by omega) h
          · refine r_iconst (pc := 804) (v := 0) C dL_law_804 (by decide) ?_
            exact r_lret (pc := 805) C E dL_law_805 h (by omega) (by omega)
        rw [if_neg c21_33] at h
        by_cases c22_33 : (v7 &&& 63) = 22
        · rw [if_pos c22_33] at h
          refine r_tswE (pc := 33) (tgt := 806) C dL_law_33 c22_33 (by decide) (by decide) rfl (by decide) ?_
          refine r_aload_n (pc := 806) (i := 1) C dL_law_806 rfl rfl ?_
          refine r_aloadR_n (pc := 807) (i := 0) C dL_law_807 rfl rfl ?_
          refine r_iload_n (pc := 808) (i := 3) C dL_law_808 rfl rfl ?_
          refine r_iconst (pc := 809) (v := 1) C dL_law_809 (by decide) ?_
          refine r_iadd (pc := 810) C dL_law_810 ?_
          refine r_scri (pc := 811) C E dL_law_811 h (fun v170 h => ?_)
          refine r_aloadR_n (pc := 812) (i := 0) C dL_law_812 rfl rfl ?_
          refine r_iload_n (pc := 813) (i := 3) C dL_law_813 rfl rfl ?_
          refine r_iconst (pc := 814) (v := 2) C dL_law_814 (by decide) ?_
          refine r_iadd (pc := 815) C dL_law_815 ?_
          refine r_scri (pc := 816) C E dL_law_816 h (fun v171 h => ?_)
          refine r_callVI (pc := 817) (As := [.int v170, .int v171]) (st := []) (hc := by omega) (hsl := by omega) C cs_L_107_X0_when h (fun _ _ e => w_X0_when (Nat.le_refl 137) e) (fun _ _ e => t_X0_when e) (Nat.le_trans (Nat.le_of_ble_eq_true rfl) hd) (Nat.le_of_ble_eq_true rfl) dL_law_817 (fun v173 σ172 h => ?_)
          refine r_aload_n (pc := 820) (i := 2) C dL_law_820 rfl rfl ?_
          refine r_aloadR_n (pc := 821) (i := 0) C dL_law_821 rfl rfl ?_
          refine r_iload_n (pc := 822) (i := 3) C dL_law_822 rfl rfl ?_
          refine r_iconst (pc := 823) (v := 1) C dL_law_823 (by decide) ?_
          refine r_iadd (pc := 824) C dL_law_824 ?_
          refine r_scri (pc := 825) C E dL_law_825 h (fun v174 h => ?_)
          refine r_aloadR_n (pc := 826) (i := 0) C dL_law_826 rfl rfl ?_
          refine r_iload_n (pc := 827) (i := 3) C dL_law_827 rfl rfl ?_
          refine r_iconst (pc := 828) (v := 2) C dL_law_828 (by decide) ?_
          refine r_iadd (pc := 829) C dL_law_829 ?_
          refine r_scri (pc := 830) C E dL_law_830 h (fun v175 h => ?_)
          refine r_callVI (pc := 831) (As := [.int v174, .int v175]) (st := [.int v173]) (hc := by omega) (hsl := by omega) C cs_L_110_X6_when h (fun _ _ e => w_X6_when (Nat.le_refl 7) e) (fun _ _ e => t_X6_when e) (Nat.le_trans (Nat.le_of_ble_eq_true rfl) hd) (Nat.le_of_ble_eq_true rfl) dL_law_831 (fun v177 σ176 h => ?_)
          refine r_icmpeq (pc := 834) (tgt := 1069) C dL_law_834 (by decide) h (fun h => ?_) (fun h => ?_)
          · refine r_pick (lv' := [(0, .ref b), (1, rv B a1), (2, rv B a2), (3, .int z3)]) [0, 1, 2, 3] rfl ?_
            exact hk9 _ _ _ (by omega) (by omega) h
          · refine r_iconst (pc := 837) (v := 0) C dL_law_837 (by decide) ?_
            exact r_lret (pc := 838) C E dL_law_838 h (by omega) (by omega)
        rw [if_neg c22_33] at h
        by_cases c23_33 : (v7 &&& 63) = 23
        · rw [if_pos c23_33] at h
          refine r_tswE (pc := 33) (tgt := 839) C dL_law_33 c23_33 (by decide) (by decide) rfl (by decide) ?_
          refine r_aload_n (pc := 839) (i := 1) C dL_law_839 rfl rfl ?_
          refine r_aloadR_n (pc := 840) (i := 0) C dL_law_840 rfl rfl ?_
          refine r_iload_n (pc := 841) (i := 3) C dL_law_841 rfl rfl ?_
          refine r_iconst (pc := 842) (v := 1) C dL_law_842 (by decide) ?_
          refine r_iadd (pc := 843) C dL_law_843 ?_
          refine r_scri (pc := 844) C E dL_law_844 h (fun v178 h => ?_)
          refine r_aloadR_n (pc := 845) (i := 0) C dL_law_845 rfl rfl ?_
          refine r_iload_n (pc := 846) (i := 3) C dL_law_846 rfl rfl ?_
          refine r_iconst (pc := 847) (v := 2) C dL_law_847 (by decide) ?_
          refine r_iadd (pc := 848) C dL_law_848 ?_
          refine r_scri (pc := 849) C E dL_law_849 h (fun v179 h => ?_)
          refine r_aloadR_n (pc := 850) (i := 0) C dL_law_850 rfl rfl ?_
          refine r_iload_n (pc := 851) (i := 3) C dL_law_851 rfl rfl ?_
          refine r_iconst (pc := 852) (v := 3) C dL_law_852 (by decide) ?_
          refine r_iadd (pc := 853) C dL_law_853 ?_
          refine r_scri (pc := 854) C E dL_law_854 h (fun v180 h => ?_)
          refine r_callVI (pc := 855) (As := [.int v178, .int v179, .int v180]) (st := []) (hc := by omega) (hsl := by omega) C cs_L_111_X0_wedding h (fun _ _ e => w_X0_wedding (Nat.le_refl 137) e) (fun _ _ e => t_X0_wedding e) (Nat.le_trans (Nat.le_of_ble_eq_true rfl) hd) (Nat.le_of_ble_eq_true rfl) dL_law_855 (fun v182 σ181 h => ?_)
          refine r_aload_n (pc := 858) (i := 2) C dL_law_858 rfl rfl ?_
          refine r_aloadR_n (pc := 859) (i := 0) C dL_law_859 rfl rfl ?_
          refine r_iload_n (pc := 860) (i := 3) C dL_law_860 rfl rfl ?_
          refine r_iconst (pc := 861) (v := 1) C dL_law_861 (by decide) ?_
          refine r_iadd (pc := 862) C dL_law_862 ?_
          refine r_scri (pc := 863) C E dL_law_863 h (fun v183 h => ?_)
          refine r_aloadR_n (pc := 864) (i := 0) C dL_law_864 rfl rfl ?_
          refine r_iload_n (pc := 865) (i := 3) C dL_law_865 rfl rfl ?_
          refine r_iconst (pc := 866) (v := 2) C dL_law_866 (by decide) ?_
          refine r_iadd (pc := 867) C dL_law_867 ?_
          refine r_scri (pc := 868) C E dL_law_868 h (fun v184 h => ?_)
          refine r_aloadR_n (pc := 869) (i := 0) C dL_law_869 rfl rfl ?_
          refine r_iload_n (pc := 870) (i := 3) C dL_law_870 rfl rfl ?_
          refine r_iconst (pc := 871) (v := 3) C dL_law_871 (by decide) ?_
          refine r_iadd (pc := 872) C dL_law_872 ?_
          refine r_scri (pc := 873) C E dL_law_873 h (fun v185 h => ?_)
          refine r_callVI (pc := 874) (As := [.int v183, .int v184, .int v185]) (st := [.int v182]) (hc := by omega) (hsl := by omega) C cs_L_115_X6_wedding h (fun _ _ e => w_X6_wedding (Nat.le_refl 7) e) (fun _ _ e => t_X6_wedding e) (Nat.le_trans (Nat.le_of_ble_eq_true rfl) hd) (Nat.le_of_ble_eq_true rfl) dL_law_874 (fun v187 σ186 h => ?_)
          refine r_icmpeq (pc := 877) (tgt := 1069) C dL_law_877 (by decide) h (fun h => ?_) (fun h => ?_)
          · refine r_pick (lv' := [(0, .ref b), (1, rv B a1), (2, rv B a2), (3, .int z3)]) [0, 1, 2, 3] rfl ?_
            exact hk9 _ _ _ (by omega) (by omega) h
          · refine r_iconst (pc := 880) (v := 0) C dL_law_880 (by decide) ?_
            exact r_lret (pc := 881) C E dL_law_881 h (by omega) (by omega)
        rw [if_neg c23_33] at h
        by_cases c24_33 : (v7 &&& 63) = 24
        · rw [if_pos c24_33] at h
          refine r_tswE (pc := 33) (tgt := 882) C dL_law_33 c24_33 (by decide) (by decide) rfl (by decide) ?_
          refine r_aload_n (pc := 882) (i := 1) C dL_law_882 rfl rfl ?_
          refine r_callVI (pc := 883) (As := []) (st := []) (hc := by omega) (hsl := by omega) C cs_L_116_X0_longest_2 h (fun _ _ e => w_X0_longest_2 (Nat.le_refl 2) e) (fun _ _ e => t_X0_longest_2 e) (Nat.le_trans (Nat.le_of_ble_eq_true rfl) hd) (Nat.le_of_ble_eq_true rfl) dL_law_883 (fun v189 σ188 h => ?_)
          refine r_aload_n (pc := 886) (i := 2) C dL_law_886 rfl rfl ?_
          refine r_callVI (pc := 887) (As := []) (st := [.int v189]) (hc := by omega) (hsl := by omega) C cs_L_119_X6_longest h (fun _ _ e => w_X6_longest (Nat.le_refl 2) e) (fun _ _ e => t_X6_longest e) (Nat.le_trans (Nat.le_of_ble_eq_true rfl) hd) (Nat.le_of_ble_eq_true rfl) dL_law_887 (fun v191 σ190 h => ?_)
          refine r_icmpeq (pc := 890) (tgt := 1069) C dL_law_890 (by decide) h (fun h => ?_) (fun h => ?_)
          · refine r_pick (lv' := [(0, .ref b), (1, rv B a1), (2, rv B a2), (3, .int z3)]) [0, 1, 2, 3] rfl ?_
            exact hk9 _ _ _ (by omega) (by omega) h
          · refine r_iconst (pc := 893) (v := 0) C dL_law_893 (by decide) ?_
            exact r_lret (pc := 894) C E dL_law_894 h (by omega) (by omega)
        rw [if_neg c24_33] at h
        by_cases c25_33 : (v7 &&& 63) = 25
        · rw [if_pos c25_33] at h
          refine r_tswE (pc := 33) (tgt := 895) C dL_law_33 c25_33 (by decide) (by decide) rfl (by decide) ?_
          refine r_aload_n (pc := 895) (i := 1) C dL_law_895 rfl rfl ?_
          refine r_aloadR_n (pc := 896) (i := 0) C dL_law_896 rfl rfl ?_
          refine r_iload_n (pc := 897) (i := 3) C dL_law_897 rfl rfl ?_
          refine r_iconst (pc := 898) (v := 1) C dL_law_898 (by decide) ?_
          refine r_iadd (pc := 899) C dL_law_899 ?_
          refine r_scri (pc := 900) C E dL_law_900 h (fun v192 h => ?_)
          refine r_callVI (pc := 901) (As := [.int v192]) (st := []) (hc := by omega) (hsl := by omega) C cs_L_120_X0_chalk h (fun _ _ e => w_X0_chalk (Nat.le_refl 3) e) (fun _ _ e => t_X0_chalk e) (Nat.le_trans (Nat.le_of_ble_eq_true rfl) hd) (Nat.le_of_ble_eq_true rfl) dL_law_901 (fun v194 σ193 h => ?_)
          refine r_aload_n (pc := 904) (i := 2) C dL_law_904 rfl rfl ?_
          refine r_aloadR_n (pc := 905) (i := 0) C dL_law_905 rfl rfl ?_
          refine r_iload_n (pc := 906) (i := 3) C dL_law_906 rfl rfl ?_
          refine r_iconst (pc := 907) (v := 1) C dL_law_907 (by decide) ?_
          refine r_iadd (pc := 908) C dL_law_908 ?_
          refine r_scri (pc := 909) C E dL_law_909 h (fun v195 h => ?_)
          refine r_callVI (pc := 910) (As := [.int v195]) (st := [.int v194]) (hc := by omega) (hsl := by omega) C cs_L_123_X6_chalk h (fun _ _ e => w_X6_chalk (Nat.le_refl 1) e) (fun _ _ e => t_X6_chalk e) (Nat.le_trans (Nat.le_of_ble_eq_true rfl) hd) (Nat.le_of_ble_eq_true rfl) dL_law_910 (fun v197 σ196 h => ?_)
          refine r_icmpeq (pc := 913) (tgt := 1069) C dL_law_913 (by decide) h (fun h => ?_) (fun h => ?_)
          · refine r_pick (lv' := [(0, .ref b), (1, rv B a1), (2, rv B a2), (3, .int z3)]) [0, 1, 2, 3] rfl ?_
            exact hk9 _ _ _ (by omega) (by omega) h
          · refine r_iconst (pc := 916) (v := 0) C dL_law_916 (by decide) ?_
            exact r_lret (pc := 917) C E dL_law_917 h (by omega) (by omega)
        rw [if_neg c25_33] at h
        by_cases c26_33 : (v7 &&& 63) = 26
        · rw [if_pos c26_33] at h
          refine r_tswE (pc := 33) (tgt := 918) C dL_law_33 c26_33 (by decide) (by decide) rfl (by decide) ?_
          refine r_aload_n (pc := 918) (i := 1) C dL_law_918 rfl rfl ?_
          refine r_aloadR_n (pc := 919) (i := 0) C dL_law_919 rfl rfl ?_
          refine r_iload_n (pc := 920) (i := 3) C dL_law_920 rfl rfl ?_
          refine r_iconst (pc := 921) (v := 1) C dL_law_921 (by decide) ?_
          refine r_iadd (pc := 922) C dL_law_922 ?_
          refine r_scri (pc := 923) C E dL_law_923 h (fun v198 h => ?_)
          refine r_callVI (pc := 924) (As := [.int v198]) (st := []) (hc := by omega) (hsl := by omega) C cs_L_124_X0_two h (fun _ _ e => w_X0_two (Nat.le_refl 5) e) (fun _ _ e => t_X0_two e) (Nat.le_trans (Nat.le_of_ble_eq_true rfl) hd) (Nat.le_of_ble_eq_true rfl) dL_law_924 (fun v200 σ199 h => ?_)
          refine r_aload_n (pc := 927) (i := 2) C dL_law_927 rfl rfl ?_
          refine r_aloadR_n (pc := 928) (i := 0) C dL_law_928 rfl rfl ?_
          refine r_iload_n (pc := 929) (i := 3) C dL_law_929 rfl rfl ?_
          refine r_iconst (pc := 930) (v := 1) C dL_law_930 (by decide) ?_
          refine r_iadd (pc := 931) C dL_law_931 ?_
          refine r_scri (pc := 932) C E dL_law_932 h (fun v201 h => ?_)
          refine r_callVI (pc := 933) (As := [.int v201]) (st := [.int v200]) (hc := by omega) (hsl := by omega) C cs_L_127_X6_two h (fun _ _ e => w_X6_two (Nat.le_refl 4) e) (fun _ _ e => t_X6_two e) (Nat.le_trans (Nat.le_of_ble_eq_true rfl) hd) (Nat.le_of_ble_eq_true rfl) dL_law_933 (fun v203 σ202 h => ?_)
          refine r_icmpeq (pc := 936) (tgt := 1069) C dL_law_936 (by decide) h (fun h => ?_) (fun h => ?_)
          · refine r_pick (lv' := [(0, .ref b), (1, rv B a1), (2, rv B a2), (3, .int z3)]) [0, 1, 2, 3] rfl ?_
            exact hk9 _ _ _ (by omega) (by omega) h
          · refine r_iconst (pc := 939) (v := 0) C dL_law_939 (by decide) ?_
            exact r_lret (pc := 940) C E dL_law_940 h (by omega) (by omega)
        rw [if_neg c26_33] at h
        by_cases c27_33 : (v7 &&& 63) = 27
        · rw [if_pos c27_33] at h
          refine r_tswE (pc := 33) (tgt := 941) C dL_law_33 c27_33 (by decide) (by decide) rfl (by decide) ?_
          refine r_aload_n (pc := 941) (i := 1) C dL_law_941 rfl rfl ?_
          refine r_aloadR_n (pc := 942) (i := 0) C dL_law_942 rfl rfl ?_
          refine r_iload_n (pc := 943) (i := 3) C dL_law_943 rfl rfl ?_
          refine r_iconst (pc := 944) (v := 1) C dL_law_944 (by decide) ?_
          refine r_iadd (pc := 945) C dL_law_945 ?_
          refine r_scri (pc := 946) C E dL_law_946 h (fun v204 h => ?_)
          refine r_aloadR_n (pc := 947) (i := 0) C dL_law_947 rfl rfl ?_
          refine r_iload_n (pc := 948) (i := 3) C dL_law_948 rfl rfl ?_
          refine r_iconst (pc := 949) (v := 2) C dL_law_949 (by decide) ?_
          refine r_iadd (pc := 950) C dL_law_950 ?_
          refine r_scri (pc := 951) C E dL_law_951 h (fun v205 h => ?_)
          refine r_callVI (pc := 952) (As := [.int v204, .int v205]) (st := []) (hc := by omega) (hsl := by omega) C cs_L_128_X0_dry h (fun _ _ e => w_X0_dry (Nat.le_refl 133) e) (fun _ _ e => t_X0_dry e) (Nat.le_trans (Nat.le_of_ble_eq_true rfl) hd) (Nat.le_of_ble_eq_true rfl) dL_law_952 (fun v207 σ206 h => ?_)
          refine r_aload_n (pc := 955) (i := 2) C dL_law_955 rfl rfl ?_
          refine r_aloadR_n (pc := 956) (i := 0) C dL_law_956 rfl rfl ?_
          refine r_iload_n (pc := 957) (i := 3) C dL_law_957 rfl rfl ?_
          refine r_iconst (pc := 958) (v := 1) C dL_law_958 (by decide) ?_
          refine r_iadd (pc := 959) C dL_law_959 ?_
          refine r_scri (pc := 960) C E dL_law_960 h (fun v208 h => ?_)
          refine r_aloadR_n (pc := 961) (i := 0) C dL_law_961 rfl rfl ?_
          refine r_iload_n (pc := 962) (i := 3) C dL_law_962 rfl rfl ?_
          refine r_iconst (pc := 963) (v := 2) C dL_law_963 (by decide) ?_
          refine r_iadd (pc := 964) C dL_law_964 ?_
          refine r_scri (pc := 965) C E dL_law_965 h (fun v209 h => ?_)
          refine r_callVI (pc := 966) (As := [.int v208, .int v209]) (st := [.int v207]) (hc := by omega) (hsl := by omega) C cs_L_131_X6_dry h (fun _ _ e => w_X6_dry (Nat.le_refl 4) e) (fun _ _ e => t_X6_dry e) (Nat.le_trans (Nat.le_of_ble_eq_true rfl) hd) (Nat.le_of_ble_eq_true rfl) dL_law_966 (fun v211 σ210 h => ?_)
          refine r_icmpeq (pc := 969) (tgt := 1069) C dL_law_969 (by decide) h (fun h => ?_) (fun h => ?_)
          · refine r_pick (lv' := [(0, .ref b), (1, rv B a1), (2, rv B a2), (3, .int z3)]) [0, 1, 2, 3] rfl ?_
            exact hk9 _ _ _ (by omega) (by omega) h
          · refine r_iconst (pc := 972) (v := 0) C dL_law_972 (by decide) ?_
            exact r_lret (pc := 973) C E dL_law_973 h (by omega) (by omega)
        rw [if_neg c27_33] at h
        by_cases c28_33 : (v7 &&& 63) = 28
        · rw [if_pos c28_33] at h
          refine r_tswE (pc := 33) (tgt := 974) C dL_law_33 c28_33 (by decide) (by decide) rfl (by decide) ?_
          refine r_aload_n (pc := 974) (i := 1) C dL_law_974 rfl rfl ?_
          refine r_aloadR_n (pc := 975) (i := 0) C dL_law_975 rfl rfl ?_
          refine r_iload_n (pc := 976) (i := 3) C dL_law_976 rfl rfl ?_
          refine r_iconst (pc := 977) (v := 1) C dL_law_977 (by decide) ?_
          refine r_iadd (pc := 978) C dL_law_978 ?_
          refine r_scri (pc := 979) C E dL_law_979 h (fun v212 h => ?_)
          refine r_callVI (pc := 980) (As := [.int v212]) (st := []) (hc := by omega) (hsl := by omega) C cs_L_132_X0_seed h (fun _ _ e => w_X0_seed (Nat.le_refl 1) e) (fun _ _ e => t_X0_seed e) (Nat.le_trans (Nat.le_of_ble_eq_true rfl) hd) (Nat.le_of_ble_eq_true rfl) dL_law_980 (fun v214 σ213 h => ?_)
          refine r_aload_n (pc := 983) (i := 2) C dL_law_983 rfl rfl ?_
          refine r_aloadR_n (pc := 984) (i := 0) C dL_law_984 rfl rfl ?_
          refine r_iload_n (pc := 985) (i := 3) C dL_law_985 rfl rfl ?_
          refine r_iconst (pc := 986) (v := 1) C dL_law_986 (by decide) ?_
          refine r_iadd (pc := 987) C dL_law_987 ?_
          refine r_scri (pc := 988) C E dL_law_988 h (fun v215 h => ?_)
          refine r_callVI (pc := 989) (As := [.int v215]) (st := [.int v214]) (hc := by omega) (hsl := by omega) C cs_L_135_X6_seed h (fun _ _ e => w_X6_seed (Nat.le_refl 1) e) (fun _ _ e => t_X6_seed e) (Nat.le_trans (Nat.le_of_ble_eq_true rfl) hd) (Nat.le_of_ble_eq_true rfl) dL_law_989 (fun v217 σ216 h => ?_)
          refine r_icmpeq (pc := 992) (tgt := 1069) C dL_law_992 (by decide) h (fun h => ?_) (fun h => ?_)
          · refine r_pick (lv' := [(0, .ref b), (1, rv B a1), (2, rv B a2), (3, .int z3)]) [0, 1, 2, 3] rfl ?_
            exact hk9 _ _ _ (by omega) (by omega) h
          · refine r_iconst (pc := 995) (v := 0) C dL_law_995 (by decide) ?_
            exact r_lret (pc := 996) C E dL_law_996 h (by omega) (by omega)
        rw [if_neg c28_33] at h
        by_cases c29_33 : (v7 &&& 63) = 29
        · rw [if_pos c29_33] at h
          refine r_tswE (pc := 33) (tgt := 997) C dL_law_33 c29_33 (by decide) (by decide) rfl (by decide) ?_
          refine r_aload_n (pc := 997) (i := 1) C dL_law_997 rfl rfl ?_
          refine r_callVI (pc := 998) (As := []) (st := []) (hc := by omega) (hsl := by omega) C cs_L_136_X0_keep h (fun _ _ e => w_X0_keep (Nat.le_refl 2) e) (fun _ _ e => t_X0_keep e) (Nat.le_trans (Nat.le_of_ble_eq_true rfl) hd) (Nat.le_of_ble_eq_true rfl) dL_law_998 (fun v219 σ218 h => ?_)
          refine r_aload_n (pc := 1001) (i := 2) C dL_law_1001 rfl rfl ?_
          refine r_callVI (pc := 1002) (As := []) (st := [.int v219]) (hc := by omega) (hsl := by omega) C cs_L_139_X6_keep h (fun _ _ e => w_X6_keep (Nat.le_refl 3) e) (fun _ _ e => t_X6_keep e) (Nat.le_trans (Nat.le_of_ble_eq_true rfl) hd) (Nat.le_of_ble_eq_true rfl) dL_law_1002 (fun v221 σ220 h => ?_)
          refine r_icmpeq (pc := 1005) (tgt := 1069) C dL_law_1005 (by decide) h (fun h => ?_) (fun h => ?_)
          · refine r_pick (lv' := [(0, .ref b), (1, rv B a1), (2, rv B a2), (3, .int z3)]) [0, 1, 2, 3] rfl ?_
            exact hk9 _ _ _ (by omega) (by omega) h
          · refine r_iconst (pc := 1008) (v := 0) C dL_law_1008 (by decide) ?_
            exact r_lret (pc := 1009) C E dL_law_1009 h (by omega) (by omega)
        rw [if_neg c29_33] at h
        by_cases c30_33 : (v7 &&& 63) = 30
        · rw [if_pos c30_33] at h
          refine r_tswE (pc := 33) (tgt := 1010) C dL_law_33 c30_33 (by decide) (by decide) rfl (by decide) ?_
          refine r_aload_n (pc := 1010) (i := 1) C dL_law_1010 rfl rfl ?_
          refine r_callVI (pc := 1011) (As := []) (st := []) (hc := by omega) (hsl := by omega) C cs_L_140_X0_undo h (fun _ _ e => w_X0_undo (Nat.le_refl 2) e) (fun _ _ e => t_X0_undo e) (Nat.le_trans (Nat.le_of_ble_eq_true rfl) hd) (Nat.le_of_ble_eq_true rfl) dL_law_1011 (fun v223 σ222 h => ?_)
          refine r_aload_n (pc := 1014) (i := 2) C dL_law_1014 rfl rfl ?_
          refine r_callVI (pc := 1015) (As := []) (st := [.int v223]) (hc := by omega) (hsl := by omega) C cs_L_144_X6_undo h (fun _ _ e => w_X6_undo (Nat.le_refl 1) e) (fun _ _ e => t_X6_undo e) (Nat.le_trans (Nat.le_of_ble_eq_true rfl) hd) (Nat.le_of_ble_eq_true rfl) dL_law_1015 (fun v225 σ224 h => ?_)
          refine r_icmpeq (pc := 1018) (tgt := 1069) C dL_law_1018 (by decide) h (fun h => ?_) (fun h => ?_)
          · refine r_pick (lv' := [(0, .ref b), (1, rv B a1), (2, rv B a2), (3, .int z3)]) [0, 1, 2, 3] rfl ?_
            exact hk9 _ _ _ (by omega) (by omega) h
          · refine r_iconst (pc := 1021) (v := 0) C dL_law_1021 (by decide) ?_
            exact r_lret (pc := 1022) C E dL_law_1022 h (by omega) (by omega)
        rw [if_neg c30_33] at h
        by_cases c31_33 : (v7 &&& 63) = 31
        · rw [if_pos c31_33] at h
          refine r_tswE (pc := 33) (tgt := 1023) C dL_law_33 c31_33 (by decide) (by decide) rfl (by decide) ?_
          refine r_aload_n (pc := 1023) (i := 1) C dL_law_1023 rfl rfl ?_
          refine r_aloadR_n (pc := 1024) (i := 0) C dL_law_1024 rfl rfl ?_
          refine r_iload_n (pc := 1025) (i := 3) C dL_law_1025 rfl rfl ?_
          refine r_iconst (pc := 1026) (v := 1) C dL_law_1026 (by decide) ?_
          refine r_iadd (pc := 1027) C dL_law_1027 ?_
          refine r_scri (pc := 1028) C E dL_law_1028 h (fun v226 h => ?_)
          refine r_callVI (pc := 1029) (As := [.int v226]) (st := []) (hc := by omega) (hsl := by omega) C cs_L_145_X0_check h (fun _ _ e => w_X0_check (Nat.le_refl 2) e) (fun _ _ e => t_X0_check e) (Nat.le_trans (Nat.le_of_ble_eq_true rfl) hd) (Nat.le_of_ble_eq_true rfl) dL_law_1029 (fun v228 σ227 h => ?_)
          refine r_aload_n (pc := 1032) (i := 2) C dL_law_1032 rfl rfl ?_
          refine r_aloadR_n (pc := 1033) (i := 0) C dL_law_1033 rfl rfl ?_
          refine r_iload_n (pc := 1034) (i := 3) C dL_law_1034 rfl rfl ?_
          refine r_iconst (pc := 1035) (v := 1) C dL_law_1035 (by decide) ?_
          refine r_iadd (pc := 1036) C dL_law_1036 ?_
          refine r_scri (pc := 1037) C E dL_law_1037 h (fun v229 h => ?_)
          refine r_callVI (pc := 1038) (As := [.int v229]) (st := [.int v228]) (hc := by omega) (hsl := by omega) C cs_L_148_X6_check h (fun _ _ e => w_X6_check (Nat.le_refl 2) e) (fun _ _ e => t_X6_check e) (Nat.le_trans (Nat.le_of_ble_eq_true rfl) hd) (Nat.le_of_ble_eq_true rfl) dL_law_1038 (fun v231 σ230 h => ?_)
          refine r_icmpeq (pc := 1041) (tgt := 1069) C dL_law_1041 (by decide) h (fun h => ?_) (fun h => ?_)
          · refine r_pick (lv' := [(0, .ref b), (1, rv B a1), (2, rv B a2), (3, .int z3)]) [0, 1, 2, 3] rfl ?_
            exact hk9 _ _ _ (by omega) (by omega) h
          · refine r_iconst (pc := 1044) (v := 0) C dL_law_1044 (by decide) ?_
            exact r_lret (pc := 1045) C E dL_law_1045 h (by omega) (by omega)
        rw [if_neg c31_33] at h
        by_cases c32_33 : (v7 &&& 63) = 32
        · rw [if_pos c32_33] at h
          refine r_tswE (pc := 33) (tgt := 1046) C dL_law_33 c32_33 (by decide) (by decide) rfl (by decide) ?_
          refine r_aload_n (pc := 1046) (i := 1) C dL_law_1046 rfl rfl ?_
          refine r_aloadR_n (pc := 1047) (i := 0) C dL_law_1047 rfl rfl ?_
          refine r_iload_n (pc := 1048) (i := 3) C dL_law_1048 rfl rfl ?_
          refine r_iconst (pc := 1049) (v := 1) C dL_law_1049 (by decide) ?_
          refine r_iadd (pc := 1050) C dL_law_1050 ?_
          refine r_scri (pc := 1051) C E dL_law_1051 h (fun v232 h => ?_)
          refine r_callVI (pc := 1052) (As := [.int v232]) (st := []) (hc := by omega) (hsl := by omega) C cs_L_149_X0_count h (fun _ _ e => w_X0_count (Nat.le_refl 2) e) (fun _ _ e => t_X0_count e) (Nat.le_trans (Nat.le_of_ble_eq_true rfl) hd) (Nat.le_of_ble_eq_true rfl) dL_law_1052 (fun v234 σ233 h => ?_)
          refine r_aload_n (pc := 1055) (i := 2) C dL_law_1055 rfl rfl ?_
          refine r_aloadR_n (pc := 1056) (i := 0) C dL_law_1056 rfl rfl ?_
          refine r_iload_n (pc := 1057) (i := 3) C dL_law_1057 rfl rfl ?_
          refine r_iconst (pc := 1058) (v := 1) C dL_law_1058 (by decide) ?_
          refine r_iadd (pc := 1059) C dL_law_1059 ?_
          refine r_scri (pc := 1060) C E dL_law_1060 h (fun v235 h => ?_)
          refine r_callVI (pc := 1061) (As := [.int v235]) (st := [.int v234]) (hc := by omega) (hsl := by omega) C cs_L_152_X6_count h (fun _ _ e => w_X6_count (Nat.le_refl 3) e) (fun _ _ e => t_X6_count e) (Nat.le_trans (Nat.le_of_ble_eq_true rfl) hd) (Nat.le_of_ble_eq_true rfl) dL_law_1061 (fun v237 σ236 h => ?_)
          refine r_icmpeq (pc := 1064) (tgt := 1069) C dL_law_1064 (by decide) h (fun h => ?_) (fun h => ?_)
          · refine r_pick (lv' := [(0, .ref b), (1, rv B a1), (2, rv B a2), (3, .int z3)]) [0, 1, 2, 3] rfl ?_
            exact hk9 _ _ _ (by omega) (by omega) h
          · refine r_iconst (pc := 1067) (v := 0) C dL_law_1067 (by decide) ?_
            exact r_lret (pc := 1068) C E dL_law_1068 h (by omega) (by omega)
        rw [if_neg c32_33] at h
        refine r_dfl (st := []) (tgt := 1069) (pc := 33) ?_ (fun hD => ?_)
        · refine r_pick (lv' := [(0, .ref b), (1, rv B a1), (2, rv B a2), (3, .int z3)]) [0, 1, 2, 3] rfl ?_
          exact hk9 _ _ _ (by omega) (by omega) h
        have n0_33 := tsw_ne (i := 0) c0_33 (by decide)
        have n1_33 := tsw_ne (i := 1) c1_33 (by decide)
        have n2_33 := tsw_ne (i := 2) c2_33 (by decide)
        have n3_33 := tsw_ne (i := 3) c3_33 (by decide)
        have n4_33 := tsw_ne (i := 4) c4_33 (by decide)
        have n5_33 := tsw_ne (i := 5) c5_33 (by decide)
        have n6_33 := tsw_ne (i := 6) c6_33 (by decide)
        have n7_33 := tsw_ne (i := 7) c7_33 (by decide)
        have n8_33 := tsw_ne (i := 8) c8_33 (by decide)
        have n9_33 := tsw_ne (i := 9) c9_33 (by decide)
        have n10_33 := tsw_ne (i := 10) c10_33 (by decide)
        have n11_33 := tsw_ne (i := 11) c11_33 (by decide)
        have n12_33 := tsw_ne (i := 12) c12_33 (by decide)
        have n13_33 := tsw_ne (i := 13) c13_33 (by decide)
        have n14_33 := tsw_ne (i := 14) c14_33 (by decide)
        have n15_33 := tsw_ne (i := 15) c15_33 (by decide)
        have n16_33 := tsw_ne (i := 16) c16_33 (by decide)
        have n17_33 := tsw_ne (i := 17) c17_33 (by decide)
        have n18_33 := tsw_ne (i := 18) c18_33 (by decide)
        have n19_33 := tsw_ne (i := 19) c19_33 (by decide)
        have n20_33 := tsw_ne (i := 20) c20_33 (by decide)
        have n21_33 := tsw_ne (i := 21) c21_33 (by decide)
        have n22_33 := tsw_ne (i := 22) c22_33 (by decide)
        have n23_33 := tsw_ne (i := 23) c23_33 (by decide)
        have n24_33 := tsw_ne (i := 24) c24_33 (by decide)
        have n25_33 := tsw_ne (i := 25) c25_33 (by decide)
        have n26_33 := tsw_ne (i := 26) c26_33 (by decide)
        have n27_33 := tsw_ne (i := 27) c27_33 (by decide)
        have n28_33 := tsw_ne (i := 28) c28_33 (by decide)
        have n29_33 := tsw_ne (i := 29) c29_33 (by decide)
        have n30_33 := tsw_ne (i := 30) c30_33 (by decide)
        have n31_33 := tsw_ne (i := 31) c31_33 (by decide)
        have n32_33 := tsw_ne (i := 32) c32_33 (by decide)
        exact r_tswO (pc := 33) (tgt := 1069) C dL_law_33 (by omega) (by decide) hD
theorem w_L_law {B F : Nat} {G : XG} {d : Nat} {σ σf : MM} {kf nf b L : Nat} {xs : Nat → Int32} (hd : 397 ≤ d) (C : xC B G yL_law cL_law 4 (some .boolean) d 1200000 5502250) (E : xLaw B b L xs G) (h : g_L_law F L xs σ = some ((1 : Int32), σf, kf, nf)) : xV B G 0 0 σ 0 [(0, .ref b)] [] := by
  unfold g_L_law at h
  refine r_newL (pc := 0) C xcl_X0 q142 q143 q116 dL_law_0 rfl rfl (fun ho => ho) h (fun p1 σ2 hop1 h => ?_)
  refine r_dup (pc := 3) C dL_law_3 ?_
  obtain ⟨hrm, h⟩ := r_ck h
  refine r_callI (pc := 4) (As := []) (st := [rv B p1]) C cs_L_9_X0_init h (fun _ e => w_X0_init (Nat.le_refl 3) e) (fun _ e => by rw [t_X0_init e]; decide) (Nat.le_trans (Nat.le_of_ble_eq_true rfl) hd) hrm.1 hrm.2 rfl rfl (Nat.le_of_ble_eq_true rfl) dL_law_4 (fun σ3 h => ?_)
  refine r_astore_n (pc := 7) (i := 1) C dL_law_7 rfl (by decide) ?_
  refine r_newL (pc := 8) C xcl_X6 q1258 q1259 q122 dL_law_8 rfl rfl (fun ho => ho) h (fun p4 σ5 hop4 h => ?_)
  refine r_dup (pc := 11) C dL_law_11 ?_
  obtain ⟨hrm, h⟩ := r_ck h
  refine r_callI (pc := 12) (As := []) (st := [rv B p4]) C cs_L_12_X6_init h (fun _ e => w_X6_init (Nat.le_refl 1) e) (fun _ e => by rw [t_X6_init e]; decide) (Nat.le_trans (Nat.le_of_ble_eq_true rfl) hd) hrm.1 hrm.2 rfl rfl (Nat.le_of_ble_eq_true rfl) dL_law_12 (fun σ6 h => ?_)
  refine r_astore_n (pc := 15) (i := 2) C dL_law_15 rfl (by decide) ?_
  refine r_iconst (pc := 16) (v := 0) C dL_law_16 (by decide) ?_
  refine r_istore_n (pc := 17) (i := 3) C dL_law_17 rfl (by decide) ?_
  refine r_pick (lv' := [(0, .ref b), (1, rv B p1), (2, rv B p4), (3, .int 0)]) [0, 1, 2, 3] rfl ?_
  refine wl_L_law_18 hd C E (fun σ238 c239 e240 hkc239 hne240 h => ?_) _ _ _ _ _ (by omega) (by omega) h
  refine r_iconst (pc := 1075) (v := 1) C dL_law_1075 (by decide) ?_
  exact r_lret (pc := 1076) C E dL_law_1076 h (by omega) (by omega)
