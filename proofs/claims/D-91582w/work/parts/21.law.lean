set_option maxRecDepth 100000
/-! ===== the law's walk (printed by genl.py) ===== -/
theorem lvc_0 : VCm "FirstPollsLaw" 13 0 yX0_place cX0_place 4 (some (.int)) 3 := ⟨⟨TX0, 39, rfl⟩, q765, q766, q767, q132, q768, by decide, by decide, by decide, by decide +kernel⟩
theorem lvm_0 : VCm "FirstPollsLaw" 17 8 yX7_place cX7_place 5 (some .int) 3 := ⟨⟨TX7, 62, rfl⟩, q1972, q1973, q1974, q144, q1975, by decide, by decide, by decide, by decide +kernel⟩
theorem lvc_1 : VCm "FirstPollsLaw" 18 0 yX0_name cX0_name 7 (some (.int)) 6 := ⟨⟨TX0, 39, rfl⟩, q769, q770, q771, q132, q772, by decide, by decide, by decide, by decide +kernel⟩
theorem lvm_1 : VCm "FirstPollsLaw" 22 8 yX7_name cX7_name 7 (some .int) 6 := ⟨⟨TX7, 62, rfl⟩, q1981, q1982, q1983, q144, q1984, by decide, by decide, by decide, by decide +kernel⟩
theorem lvc_2 : VCm "FirstPollsLaw" 23 0 yX0_row cX0_row 5 (some (.int)) 2 := ⟨⟨TX0, 39, rfl⟩, q872, q873, q874, q132, q875, by decide, by decide, by decide, by decide +kernel⟩
theorem lvm_2 : VCm "FirstPollsLaw" 27 8 yX7_row cX7_row 7 (some .int) 2 := ⟨⟨TX7, 62, rfl⟩, q2014, q2015, q2016, q144, q2017, by decide, by decide, by decide, by decide +kernel⟩
theorem lvc_3 : VCm "FirstPollsLaw" 28 0 yX0_off cX0_off 4 (some (.int)) 3 := ⟨⟨TX0, 39, rfl⟩, q915, q916, q917, q132, q918, by decide, by decide, by decide, by decide +kernel⟩
theorem lvm_3 : VCm "FirstPollsLaw" 31 8 yX7_off cX7_off 5 (some .int) 3 := ⟨⟨TX7, 62, rfl⟩, q2018, q2019, q2020, q144, q2021, by decide, by decide, by decide, by decide +kernel⟩
theorem lvc_4 : VCm "FirstPollsLaw" 32 0 yX0_moved cX0_moved 5 (some (.int)) 4 := ⟨⟨TX0, 39, rfl⟩, q923, q924, q925, q132, q926, by decide, by decide, by decide, by decide +kernel⟩
theorem lvm_4 : VCm "FirstPollsLaw" 36 8 yX7_moved cX7_moved 6 (some .int) 4 := ⟨⟨TX7, 62, rfl⟩, q2026, q2027, q2028, q144, q2029, by decide, by decide, by decide, by decide +kernel⟩
theorem lvc_5 : VCm "FirstPollsLaw" 37 0 yX0_of cX0_of 4 (some (.int)) 2 := ⟨⟨TX0, 39, rfl⟩, q941, q942, q943, q132, q944, by decide, by decide, by decide, by decide +kernel⟩
theorem lvm_5 : VCm "FirstPollsLaw" 40 8 yX7_of cX7_of 3 (some .int) 2 := ⟨⟨TX7, 62, rfl⟩, q2030, q2031, q2032, q144, q2033, by decide, by decide, by decide, by decide +kernel⟩
theorem lvc_6 : VCm "FirstPollsLaw" 41 0 yX0_where cX0_where 4 (some (.int)) 3 := ⟨⟨TX0, 39, rfl⟩, q961, q962, q963, q132, q964, by decide, by decide, by decide, by decide +kernel⟩
theorem lvm_6 : VCm "FirstPollsLaw" 44 8 yX7_where cX7_where 4 (some .int) 3 := ⟨⟨TX7, 62, rfl⟩, q2035, q2036, q2037, q144, q2038, by decide, by decide, by decide, by decide +kernel⟩
theorem lvc_7 : VCm "FirstPollsLaw" 45 0 yX0_on cX0_on 4 (some (.int)) 3 := ⟨⟨TX0, 39, rfl⟩, q1419, q1420, q1421, q132, q1422, by decide, by decide, by decide, by decide +kernel⟩
theorem lvm_7 : VCm "FirstPollsLaw" 48 8 yX7_on cX7_on 4 (some .int) 3 := ⟨⟨TX7, 62, rfl⟩, q2047, q2048, q2049, q144, q2050, by decide, by decide, by decide, by decide +kernel⟩
theorem lvc_8 : VCm "FirstPollsLaw" 49 0 yX0_roll cX0_roll 4 (some (.int)) 3 := ⟨⟨TX0, 39, rfl⟩, q1494, q1495, q1496, q132, q1497, by decide, by decide, by decide, by decide +kernel⟩
theorem lvm_8 : VCm "FirstPollsLaw" 52 8 yX7_roll cX7_roll 4 (some .int) 3 := ⟨⟨TX7, 62, rfl⟩, q2091, q2092, q2093, q144, q2094, by decide, by decide, by decide, by decide +kernel⟩
theorem lvc_9 : VCm "FirstPollsLaw" 53 0 yX0_like cX0_like 3 (some (.int)) 2 := ⟨⟨TX0, 39, rfl⟩, q973, q974, q975, q132, q976, by decide, by decide, by decide, by decide +kernel⟩
theorem lvm_9 : VCm "FirstPollsLaw" 56 8 yX7_like cX7_like 3 (some .int) 2 := ⟨⟨TX7, 62, rfl⟩, q2099, q2100, q2101, q144, q2102, by decide, by decide, by decide, by decide +kernel⟩
theorem lvc_10 : VCm "FirstPollsLaw" 57 0 yX0_apart cX0_apart 3 (some (.int)) 2 := ⟨⟨TX0, 39, rfl⟩, q984, q985, q986, q132, q987, by decide, by decide, by decide, by decide +kernel⟩
theorem lvm_10 : VCm "FirstPollsLaw" 60 8 yX7_apart cX7_apart 3 (some .int) 2 := ⟨⟨TX7, 62, rfl⟩, q2109, q2110, q2111, q144, q2112, by decide, by decide, by decide, by decide +kernel⟩
theorem lvc_11 : VCm "FirstPollsLaw" 61 0 yX0_twice cX0_twice 7 (some (.int)) 3 := ⟨⟨TX0, 39, rfl⟩, q1498, q1499, q1500, q132, q1501, by decide, by decide, by decide, by decide +kernel⟩
theorem lvm_11 : VCm "FirstPollsLaw" 64 8 yX7_twice cX7_twice 8 (some .int) 3 := ⟨⟨TX7, 62, rfl⟩, q2113, q2114, q2115, q144, q2116, by decide, by decide, by decide, by decide +kernel⟩
theorem lvc_12 : VCm "FirstPollsLaw" 65 0 yX0_feed cX0_feed 6 (some (.int)) 5 := ⟨⟨TX0, 39, rfl⟩, q1019, q1020, q1021, q132, q1022, by decide, by decide, by decide, by decide +kernel⟩
theorem lvm_12 : VCm "FirstPollsLaw" 69 8 yX7_feed cX7_feed 6 (some .int) 5 := ⟨⟨TX7, 62, rfl⟩, q2121, q2122, q2123, q144, q2124, by decide, by decide, by decide, by decide +kernel⟩
theorem lvc_13 : VCm "FirstPollsLaw" 70 0 yX0_end cX0_end 2 (some (.int)) 1 := ⟨⟨TX0, 39, rfl⟩, q1027, q1028, q1029, q132, q1030, by decide, by decide, by decide, by decide +kernel⟩
theorem lvm_13 : VCm "FirstPollsLaw" 74 8 yX7_end cX7_end 2 (some .int) 1 := ⟨⟨TX7, 62, rfl⟩, q2129, q2130, q2131, q144, q2132, by decide, by decide, by decide, by decide +kernel⟩
theorem lvx_14 : VCx "FirstPollsLaw" 75 0 yX0_order 1 := ⟨⟨TX0, 39, rfl⟩, q1031, q1032, q1033, by decide, by decide, by decide +kernel⟩
theorem lvm_14 : VCm "FirstPollsLaw" 78 8 yX7_order cX7_order 4 (some .int) 1 := ⟨⟨TX7, 62, rfl⟩, q2137, q2138, q2139, q144, q2140, by decide, by decide, by decide, by decide +kernel⟩
theorem lvc_15 : VCm "FirstPollsLaw" 79 0 yX0_fault cX0_fault 1 (some (.int)) 0 := ⟨⟨TX0, 39, rfl⟩, q1399, q1400, q1401, q132, q1402, by decide, by decide, by decide, by decide +kernel⟩
theorem lvm_15 : VCm "FirstPollsLaw" 83 8 yX7_fault cX7_fault 1 (some .int) 0 := ⟨⟨TX7, 62, rfl⟩, q2133, q2134, q2135, q144, q2136, by decide, by decide, by decide, by decide +kernel⟩
theorem lvc_16 : VCm "FirstPollsLaw" 84 0 yX0_force cX0_force 4 (some (.int)) 3 := ⟨⟨TX0, 39, rfl⟩, q1403, q1404, q1405, q132, q1406, by decide, by decide, by decide, by decide +kernel⟩
theorem lvm_16 : VCm "FirstPollsLaw" 87 8 yX7_force cX7_force 4 (some .int) 3 := ⟨⟨TX7, 62, rfl⟩, q2281, q2282, q2283, q144, q2284, by decide, by decide, by decide, by decide +kernel⟩
theorem lvc_17 : VCm "FirstPollsLaw" 88 0 yX0_rule cX0_rule 5 (some (.int)) 4 := ⟨⟨TX0, 39, rfl⟩, q1506, q1507, q1508, q132, q1509, by decide, by decide, by decide, by decide +kernel⟩
theorem lvm_17 : VCm "FirstPollsLaw" 91 8 yX7_rule cX7_rule 5 (some .int) 4 := ⟨⟨TX7, 62, rfl⟩, q2285, q2286, q2287, q144, q2288, by decide, by decide, by decide, by decide +kernel⟩
theorem lvc_18 : VCm "FirstPollsLaw" 92 0 yX0_wish cX0_wish 3 (some (.int)) 1 := ⟨⟨TX0, 39, rfl⟩, q1530, q1531, q1532, q132, q1533, by decide, by decide, by decide, by decide +kernel⟩
theorem lvm_18 : VCm "FirstPollsLaw" 95 8 yX7_wish cX7_wish 3 (some .int) 1 := ⟨⟨TX7, 62, rfl⟩, q2297, q2298, q2299, q144, q2300, by decide, by decide, by decide, by decide +kernel⟩
theorem lvc_19 : VCm "FirstPollsLaw" 96 0 yX0_clear cX0_clear 2 (some (.int)) 0 := ⟨⟨TX0, 39, rfl⟩, q1534, q1535, q1536, q132, q1537, by decide, by decide, by decide, by decide +kernel⟩
theorem lvm_19 : VCm "FirstPollsLaw" 99 8 yX7_clear cX7_clear 2 (some .int) 0 := ⟨⟨TX7, 62, rfl⟩, q2301, q2302, q2303, q144, q2304, by decide, by decide, by decide, by decide +kernel⟩
theorem lvc_20 : VCm "FirstPollsLaw" 100 0 yX0_booths cX0_booths 8 (some (.int)) 2 := ⟨⟨TX0, 39, rfl⟩, q1538, q1539, q1540, q132, q1541, by decide, by decide, by decide, by decide +kernel⟩
theorem lvm_20 : VCm "FirstPollsLaw" 103 8 yX7_booths cX7_booths 9 (some .int) 2 := ⟨⟨TX7, 62, rfl⟩, q2305, q2306, q2307, q144, q2308, by decide, by decide, by decide, by decide +kernel⟩
theorem lvc_21 : VCm "FirstPollsLaw" 104 0 yX0_led cX0_led 2 (some (.int)) 1 := ⟨⟨TX0, 39, rfl⟩, q1569, q1570, q1571, q132, q1572, by decide, by decide, by decide, by decide +kernel⟩
theorem lvm_21 : VCm "FirstPollsLaw" 107 8 yX7_led cX7_led 2 (some .int) 1 := ⟨⟨TX7, 62, rfl⟩, q2332, q2333, q2334, q144, q2335, by decide, by decide, by decide, by decide +kernel⟩
theorem lvc_22 : VCm "FirstPollsLaw" 108 0 yX0_judge cX0_judge 4 (some (.int)) 3 := ⟨⟨TX0, 39, rfl⟩, q1573, q1574, q1575, q132, q1576, by decide, by decide, by decide, by decide +kernel⟩
theorem lvm_22 : VCm "FirstPollsLaw" 111 8 yX7_judge cX7_judge 4 (some .int) 3 := ⟨⟨TX7, 62, rfl⟩, q2336, q2337, q2338, q144, q2339, by decide, by decide, by decide, by decide +kernel⟩
theorem lvc_23 : VCm "FirstPollsLaw" 112 0 yX0_booth cX0_booth 2 (some (.int)) 1 := ⟨⟨TX0, 39, rfl⟩, q1577, q1578, q1579, q132, q1580, by decide, by decide, by decide, by decide +kernel⟩
theorem lvm_23 : VCm "FirstPollsLaw" 115 8 yX7_booth cX7_booth 2 (some .int) 1 := ⟨⟨TX7, 62, rfl⟩, q2340, q2341, q2342, q144, q2343, by decide, by decide, by decide, by decide +kernel⟩
theorem lvc_24 : VCm "FirstPollsLaw" 116 0 yX0_box cX0_box 3 (some (.int)) 2 := ⟨⟨TX0, 39, rfl⟩, q1581, q1582, q1583, q132, q1584, by decide, by decide, by decide, by decide +kernel⟩
theorem lvm_24 : VCm "FirstPollsLaw" 119 8 yX7_box cX7_box 3 (some .int) 2 := ⟨⟨TX7, 62, rfl⟩, q2344, q2345, q2346, q144, q2347, by decide, by decide, by decide, by decide +kernel⟩
theorem lvc_25 : VCm "FirstPollsLaw" 120 0 yX0_hand cX0_hand 6 (some (.int)) 5 := ⟨⟨TX0, 39, rfl⟩, q1590, q1591, q1592, q132, q1593, by decide, by decide, by decide, by decide +kernel⟩
theorem lvm_25 : VCm "FirstPollsLaw" 123 8 yX7_hand cX7_hand 7 (some .int) 5 := ⟨⟨TX7, 62, rfl⟩, q2353, q2354, q2355, q144, q2356, by decide, by decide, by decide, by decide +kernel⟩
theorem lvc_26 : VCm "FirstPollsLaw" 124 0 yX0_held cX0_held 5 (some (.int)) 3 := ⟨⟨TX0, 39, rfl⟩, q1598, q1599, q1600, q132, q1601, by decide, by decide, by decide, by decide +kernel⟩
theorem lvm_26 : VCm "FirstPollsLaw" 127 8 yX7_held cX7_held 8 (some .int) 3 := ⟨⟨TX7, 62, rfl⟩, q2361, q2362, q2363, q144, q2364, by decide, by decide, by decide, by decide +kernel⟩
theorem lvc_27 : VCm "FirstPollsLaw" 128 0 yX0_broken cX0_broken 6 (some (.int)) 3 := ⟨⟨TX0, 39, rfl⟩, q1606, q1607, q1608, q132, q1609, by decide, by decide, by decide, by decide +kernel⟩
theorem lvm_27 : VCm "FirstPollsLaw" 131 8 yX7_broken cX7_broken 6 (some .int) 3 := ⟨⟨TX7, 62, rfl⟩, q2365, q2366, q2367, q144, q2368, by decide, by decide, by decide, by decide +kernel⟩
theorem lvc_28 : VCm "FirstPollsLaw" 132 0 yX0_paper cX0_paper 5 (some (.int)) 4 := ⟨⟨TX0, 39, rfl⟩, q1614, q1615, q1616, q132, q1617, by decide, by decide, by decide, by decide +kernel⟩
theorem lvm_28 : VCm "FirstPollsLaw" 135 8 yX7_paper cX7_paper 5 (some .int) 4 := ⟨⟨TX7, 62, rfl⟩, q2377, q2378, q2379, q144, q2380, by decide, by decide, by decide, by decide +kernel⟩
theorem lvc_29 : VCm "FirstPollsLaw" 136 0 yX0_count cX0_count 7 (some (.int)) 5 := ⟨⟨TX0, 39, rfl⟩, q1619, q1620, q1621, q132, q1622, by decide, by decide, by decide, by decide +kernel⟩
theorem lvm_29 : VCm "FirstPollsLaw" 139 8 yX7_count cX7_count 7 (some .int) 5 := ⟨⟨TX7, 62, rfl⟩, q2381, q2382, q2383, q144, q2384, by decide, by decide, by decide, by decide +kernel⟩
theorem lvc_30 : VCm "FirstPollsLaw" 140 0 yX0_tells cX0_tells 7 (some (.int)) 4 := ⟨⟨TX0, 39, rfl⟩, q1623, q1624, q1625, q132, q1626, by decide, by decide, by decide, by decide +kernel⟩
theorem lvm_30 : VCm "FirstPollsLaw" 143 8 yX7_tells cX7_tells 9 (some .int) 4 := ⟨⟨TX7, 62, rfl⟩, q2387, q2388, q2389, q144, q2390, by decide, by decide, by decide, by decide +kernel⟩
theorem lvc_31 : VCm "FirstPollsLaw" 144 0 yX0_keep cX0_keep 3 (some (.int)) 2 := ⟨⟨TX0, 39, rfl⟩, q1661, q1662, q1663, q132, q1664, by decide, by decide, by decide, by decide +kernel⟩
theorem lvm_31 : VCm "FirstPollsLaw" 147 8 yX7_keep cX7_keep 3 (some .int) 2 := ⟨⟨TX7, 62, rfl⟩, q2421, q2422, q2423, q144, q2424, by decide, by decide, by decide, by decide +kernel⟩
theorem lvc_32 : VCm "FirstPollsLaw" 148 0 yX0_seat cX0_seat 5 (some (.int)) 4 := ⟨⟨TX0, 39, rfl⟩, q1665, q1666, q1667, q132, q1668, by decide, by decide, by decide, by decide +kernel⟩
theorem lvm_32 : VCm "FirstPollsLaw" 151 8 yX7_seat cX7_seat 5 (some .int) 4 := ⟨⟨TX7, 62, rfl⟩, q2425, q2426, q2427, q144, q2428, by decide, by decide, by decide, by decide +kernel⟩
theorem lvc_33 : VCm "FirstPollsLaw" 152 0 yX0_hidden cX0_hidden 8 (some (.int)) 5 := ⟨⟨TX0, 39, rfl⟩, q1682, q1683, q1684, q132, q1685, by decide, by decide, by decide, by decide +kernel⟩
theorem lvm_33 : VCm "FirstPollsLaw" 155 8 yX7_hidden cX7_hidden 9 (some .int) 5 := ⟨⟨TX7, 62, rfl⟩, q2445, q2446, q2447, q144, q2448, by decide, by decide, by decide, by decide +kernel⟩
theorem lvc_34 : VCm "FirstPollsLaw" 156 0 yX0_shares cX0_shares 11 (some (.int)) 4 := ⟨⟨TX0, 39, rfl⟩, q1694, q1695, q1696, q132, q1697, by decide, by decide, by decide, by decide +kernel⟩
theorem lvm_34 : VCm "FirstPollsLaw" 159 8 yX7_shares cX7_shares 14 (some .int) 4 := ⟨⟨TX7, 62, rfl⟩, q2453, q2454, q2455, q144, q2456, by decide, by decide, by decide, by decide +kernel⟩
theorem lvc_35 : VCm "FirstPollsLaw" 160 0 yX0_terms cX0_terms 3 (some (.int)) 2 := ⟨⟨TX0, 39, rfl⟩, q1699, q1700, q1701, q132, q1702, by decide, by decide, by decide, by decide +kernel⟩
theorem lvm_35 : VCm "FirstPollsLaw" 163 8 yX7_terms cX7_terms 3 (some .int) 2 := ⟨⟨TX7, 62, rfl⟩, q2457, q2458, q2459, q144, q2460, by decide, by decide, by decide, by decide +kernel⟩
theorem lvc_36 : VCm "FirstPollsLaw" 164 0 yX0_span cX0_span 4 (some (.int)) 3 := ⟨⟨TX0, 39, rfl⟩, q1703, q1704, q1705, q132, q1706, by decide, by decide, by decide, by decide +kernel⟩
theorem lvm_36 : VCm "FirstPollsLaw" 167 8 yX7_span cX7_span 4 (some .int) 3 := ⟨⟨TX7, 62, rfl⟩, q2462, q2463, q2464, q144, q2465, by decide, by decide, by decide, by decide +kernel⟩
theorem lvc_37 : VCm "FirstPollsLaw" 168 0 yX0_way cX0_way 3 (some (.int)) 2 := ⟨⟨TX0, 39, rfl⟩, q1707, q1708, q1709, q132, q1710, by decide, by decide, by decide, by decide +kernel⟩
theorem lvm_37 : VCm "FirstPollsLaw" 171 8 yX7_way cX7_way 7 (some .int) 2 := ⟨⟨TX7, 62, rfl⟩, q2466, q2467, q2468, q144, q2469, by decide, by decide, by decide, by decide +kernel⟩
theorem lvc_38 : VCm "FirstPollsLaw" 172 0 yX0_leg cX0_leg 3 (some (.int)) 2 := ⟨⟨TX0, 39, rfl⟩, q1719, q1720, q1721, q132, q1722, by decide, by decide, by decide, by decide +kernel⟩
theorem lvm_38 : VCm "FirstPollsLaw" 175 8 yX7_leg cX7_leg 3 (some .int) 2 := ⟨⟨TX7, 62, rfl⟩, q2486, q2487, q2488, q144, q2489, by decide, by decide, by decide, by decide +kernel⟩
theorem lvc_39 : VCm "FirstPollsLaw" 176 0 yX0_doors cX0_doors 7 (some (.int)) 4 := ⟨⟨TX0, 39, rfl⟩, q1723, q1724, q1725, q132, q1726, by decide, by decide, by decide, by decide +kernel⟩
theorem lvm_39 : VCm "FirstPollsLaw" 179 8 yX7_doors cX7_doors 8 (some .int) 4 := ⟨⟨TX7, 62, rfl⟩, q2490, q2491, q2492, q144, q2493, by decide, by decide, by decide, by decide +kernel⟩
theorem lvc_40 : VCm "FirstPollsLaw" 180 0 yX0_seal cX0_seal 2 (some (.int)) 1 := ⟨⟨TX0, 39, rfl⟩, q1735, q1736, q1737, q132, q1738, by decide, by decide, by decide, by decide +kernel⟩
theorem lvm_40 : VCm "FirstPollsLaw" 183 8 yX7_seal cX7_seal 2 (some .int) 1 := ⟨⟨TX7, 62, rfl⟩, q2502, q2503, q2504, q144, q2505, by decide, by decide, by decide, by decide +kernel⟩
theorem lvc_41 : VCm "FirstPollsLaw" 184 0 yX0_alter cX0_alter 3 (some (.int)) 2 := ⟨⟨TX0, 39, rfl⟩, q1747, q1748, q1749, q132, q1750, by decide, by decide, by decide, by decide +kernel⟩
theorem lvm_41 : VCm "FirstPollsLaw" 187 8 yX7_alter cX7_alter 3 (some .int) 2 := ⟨⟨TX7, 62, rfl⟩, q2510, q2511, q2512, q144, q2513, by decide, by decide, by decide, by decide +kernel⟩
theorem lvc_42 : VCm "FirstPollsLaw" 188 0 yX0_found cX0_found 8 (some (.int)) 1 := ⟨⟨TX0, 39, rfl⟩, q1751, q1752, q1753, q132, q1754, by decide, by decide, by decide, by decide +kernel⟩
theorem lvm_42 : VCm "FirstPollsLaw" 191 8 yX7_found cX7_found 9 (some .int) 1 := ⟨⟨TX7, 62, rfl⟩, q2515, q2516, q2517, q144, q2518, by decide, by decide, by decide, by decide +kernel⟩
theorem lvc_43 : VCm "FirstPollsLaw" 192 0 yX0_image cX0_image 2 (some (.int)) 1 := ⟨⟨TX0, 39, rfl⟩, q651, q652, q653, q132, q654, by decide, by decide, by decide, by decide +kernel⟩
theorem lvm_43 : VCm "FirstPollsLaw" 195 8 yX7_image cX7_image 3 (some .int) 1 := ⟨⟨TX7, 62, rfl⟩, q1957, q1958, q1959, q144, q1960, by decide, by decide, by decide, by decide +kernel⟩
theorem lvc_44 : VCm "FirstPollsLaw" 196 0 yX0_back cX0_back 2 (some (.int)) 1 := ⟨⟨TX0, 39, rfl⟩, q757, q758, q759, q132, q760, by decide, by decide, by decide, by decide +kernel⟩
theorem lvm_44 : VCm "FirstPollsLaw" 199 8 yX7_back cX7_back 3 (some .int) 1 := ⟨⟨TX7, 62, rfl⟩, q1968, q1969, q1970, q144, q1971, by decide, by decide, by decide, by decide +kernel⟩
theorem lvc_45 : VCm "FirstPollsLaw" 200 0 yX0_all cX0_all 2 (some (.int)) 1 := ⟨⟨TX0, 39, rfl⟩, q1755, q1756, q1757, q132, q1758, by decide, by decide, by decide, by decide +kernel⟩
theorem lvm_45 : VCm "FirstPollsLaw" 203 8 yX7_all cX7_all 2 (some .int) 1 := ⟨⟨TX7, 62, rfl⟩, q2519, q2520, q2521, q144, q2522, by decide, by decide, by decide, by decide +kernel⟩
theorem lvc_46 : VCm "FirstPollsLaw" 204 0 yX0_status cX0_status 1 (some (.int)) 0 := ⟨⟨TX0, 39, rfl⟩, q1759, q1760, q1761, q132, q1762, by decide, by decide, by decide, by decide +kernel⟩
theorem lvm_46 : VCm "FirstPollsLaw" 207 8 yX7_status cX7_status 1 (some .int) 0 := ⟨⟨TX7, 62, rfl⟩, q2523, q2524, q2525, q144, q2526, by decide, by decide, by decide, by decide +kernel⟩
def lawArm_0 (ys : Nat → Int32) (L : Nat) (i : Int32) (x : Nat) (w : AH) (σ : SM) : Option (AH × SM) :=
  ck (bnd (i + (1 : Int32)) L) <|
  ck (bnd (i + (2 : Int32)) L) <|
  ck (bnd (i + (3 : Int32)) L) <|
  bd2 (mC_X0_place x (ys (i + (1 : Int32)).toNatClampNeg) (ys (i + (2 : Int32)).toNatClampNeg) (ys (i + (3 : Int32)).toNatClampNeg) w) fun r w1 =>
  bd2 (mM_place (ys (i + (1 : Int32)).toNatClampNeg) (ys (i + (2 : Int32)).toNatClampNeg) (ys (i + (3 : Int32)).toNatClampNeg) σ) fun r2 σ1 =>
  if r = r2 then some (w1, σ1) else none
theorem lawArm_0_L {h : Nat} {ys : Nat → Int32} {L : Nat} {i : Int32} {x : Nat} {w w1 : AH} {σ σ1 : SM} (hL : LI h x w) (hf : lawArm_0 ys L i x w σ = some (w1, σ1)) : LI h x w1 := by
  unfold lawArm_0 at hf
  obtain ⟨hb1, hf⟩ := ck_ex hf
  obtain ⟨hb2, hf⟩ := ck_ex hf
  obtain ⟨hb3, hf⟩ := ck_ex hf
  obtain ⟨r, w2, hA, hf⟩ := bd2_ex hf
  obtain ⟨r2, σ2, hB, hf⟩ := bd2_ex hf
  split at hf
  · cases some_ex hf
    exact hL.ext (mC_X0_place_x _ _ _ _ _ _ _ hA)
  · cases hf
set_option maxHeartbeats 4000000 in
theorem lawArm_0_v {X : CX} {b L h x : Nat} {ys : Nat → Int32} {i : Int32} {w w1 : AH} {σ σ1 : SM} (hX : SX X b L ys) (hT : (xl X).stackTraces = false) (hL : LI h x w) (hf : lawArm_0 ys L i x w σ = some (w1, σ1))
    (kk : V X cL_law "FirstPollsLaw" 4 1000 (WB h w1 σ1) 2039 [some (.ref b), some (.ref x), some (.ref h), some (.int i)] []) : V X cL_law "FirstPollsLaw" 4 1000 (WB h w σ) 236 [some (.ref b), some (.ref x), some (.ref h), some (.int i)] [] := by
  unfold lawArm_0 at hf
  obtain ⟨hb1, hf⟩ := ck_ex hf
  obtain ⟨hb2, hf⟩ := ck_ex hf
  obtain ⟨hb3, hf⟩ := ck_ex hf
  obtain ⟨r, w2, hA, hf⟩ := bd2_ex hf
  obtain ⟨r2, σ2, hB, hf⟩ := bd2_ex hf
  split at hf
  · rename_i hq
    subst hq
    cases some_ex hf
    refine V_aload_n dL_law_236 rfl ?_
    refine V_aload_n dL_law_237 rfl ?_
    refine V_iload_n dL_law_238 rfl ?_
    refine V_iconst dL_law_239 ckc_1 ?_
    refine V_iadd dL_law_240 ?_
    refine V_sld hX hb1 rfl dL_law_241 ?_
    refine V_aload_n dL_law_242 rfl ?_
    refine V_iload_n dL_law_243 rfl ?_
    refine V_iconst dL_law_244 ckc_2 ?_
    refine V_iadd dL_law_245 ?_
    refine V_sld hX hb2 rfl dL_law_246 ?_
    refine V_aload_n dL_law_247 rfl ?_
    refine V_iload_n dL_law_248 rfl ?_
    refine V_iconst dL_law_249 ckc_3 ?_
    refine V_iadd dL_law_250 ?_
    refine V_sld hX hb3 rfl dL_law_251 ?_
    refine V_cV (av := [.int (ys (i + (1 : Int32)).toNatClampNeg), .int (ys (i + (2 : Int32)).toNatClampNeg), .int (ys (i + (3 : Int32)).toNatClampNeg)]) (rest := []) (st' := [.int r]) (callA hL (mC_X0_place_ok _ _ _ _ _ _ _ _ _ hA)) lvc_0 (WB_kx hL) (by decide) rfl rfl (Nat.le_of_ble_eq_true rfl) dL_law_252 rfl ?_
    refine V_aload_n dL_law_255 rfl ?_
    refine V_aload_n dL_law_256 rfl ?_
    refine V_iload_n dL_law_257 rfl ?_
    refine V_iconst dL_law_258 ckc_1 ?_
    refine V_iadd dL_law_259 ?_
    refine V_sld hX hb1 rfl dL_law_260 ?_
    refine V_aload_n dL_law_261 rfl ?_
    refine V_iload_n dL_law_262 rfl ?_
    refine V_iconst dL_law_263 ckc_2 ?_
    refine V_iadd dL_law_264 ?_
    refine V_sld hX hb2 rfl dL_law_265 ?_
    refine V_aload_n dL_law_266 rfl ?_
    refine V_iload_n dL_law_267 rfl ?_
    refine V_iconst dL_law_268 ckc_3 ?_
    refine V_iadd dL_law_269 ?_
    refine V_sld hX hb3 rfl dL_law_270 ?_
    refine V_cV (av := [.int (ys (i + (1 : Int32)).toNatClampNeg), .int (ys (i + (2 : Int32)).toNatClampNeg), .int (ys (i + (3 : Int32)).toNatClampNeg)]) (rest := [.int r]) (st' := [.int r, .int r]) (callB (mM_place_ok _ _ _ h _ _ _ _ _ _ hB)) lvm_0 WB_kh (by decide) rfl rfl (Nat.le_of_ble_eq_true rfl) dL_law_271 rfl ?_
    refine V_icmp_eq (tgt := 2039) dL_law_274 (by decide) (fun _ => kk) (fun hq => absurd rfl hq)
  · cases hf
def lawArm_1 (ys : Nat → Int32) (L : Nat) (i : Int32) (x : Nat) (w : AH) (σ : SM) : Option (AH × SM) :=
  ck (bnd (i + (1 : Int32)) L) <|
  ck (bnd (i + (2 : Int32)) L) <|
  ck (bnd (i + (3 : Int32)) L) <|
  ck (bnd (i + (4 : Int32)) L) <|
  ck (bnd (i + (5 : Int32)) L) <|
  ck (bnd (i + (6 : Int32)) L) <|
  bd2 (mC_X0_name x (ys (i + (1 : Int32)).toNatClampNeg) (ys (i + (2 : Int32)).toNatClampNeg) (ys (i + (3 : Int32)).toNatClampNeg) (ys (i + (4 : Int32)).toNatClampNeg) (ys (i + (5 : Int32)).toNatClampNeg) (ys (i + (6 : Int32)).toNatClampNeg) w) fun r w1 =>
  bd2 (mM_name (ys (i + (1 : Int32)).toNatClampNeg) (ys (i + (2 : Int32)).toNatClampNeg) (ys (i + (3 : Int32)).toNatClampNeg) (ys (i + (4 : Int32)).toNatClampNeg) (ys (i + (5 : Int32)).toNatClampNeg) (ys (i + (6 : Int32)).toNatClampNeg) σ) fun r2 σ1 =>
  if r = r2 then some (w1, σ1) else none
theorem lawArm_1_L {h : Nat} {ys : Nat → Int32} {L : Nat} {i : Int32} {x : Nat} {w w1 : AH} {σ σ1 : SM} (hL : LI h x w) (hf : lawArm_1 ys L i x w σ = some (w1, σ1)) : LI h x w1 := by
  unfold lawArm_1 at hf
  obtain ⟨hb1, hf⟩ := ck_ex hf
  obtain ⟨hb2, hf⟩ := ck_ex hf
  obtain ⟨hb3, hf⟩ := ck_ex hf
  obtain ⟨hb4, hf⟩ := ck_ex hf
  obtain ⟨hb5, hf⟩ := ck_ex hf
  obtain ⟨hb6, hf⟩ := ck_ex hf
  obtain ⟨r, w2, hA, hf⟩ := bd2_ex hf
  obtain ⟨r2, σ2, hB, hf⟩ := bd2_ex hf
  split at hf
  · cases some_ex hf
    exact hL.ext (mC_X0_name_x _ _ _ _ _ _ _ _ _ _ hA)
  · cases hf
set_option maxHeartbeats 4000000 in
theorem lawArm_1_v {X : CX} {b L h x : Nat} {ys : Nat → Int32} {i : Int32} {w w1 : AH} {σ σ1 : SM} (hX : SX X b L ys) (hT : (xl X).stackTraces = false) (hL : LI h x w) (hf : lawArm_1 ys L i x w σ = some (w1, σ1))
    (kk : V X cL_law "FirstPollsLaw" 4 1000 (WB h w1 σ1) 2039 [some (.ref b), some (.ref x), some (.ref h), some (.int i)] []) : V X cL_law "FirstPollsLaw" 4 1000 (WB h w σ) 279 [some (.ref b), some (.ref x), some (.ref h), some (.int i)] [] := by
  unfold lawArm_1 at hf
  obtain ⟨hb1, hf⟩ := ck_ex hf
  obtain ⟨hb2, hf⟩ := ck_ex hf
  obtain ⟨hb3, hf⟩ := ck_ex hf
  obtain ⟨hb4, hf⟩ := ck_ex hf
  obtain ⟨hb5, hf⟩ := ck_ex hf
  obtain ⟨hb6, hf⟩ := ck_ex hf
  obtain ⟨r, w2, hA, hf⟩ := bd2_ex hf
  obtain ⟨r2, σ2, hB, hf⟩ := bd2_ex hf
  split at hf
  · rename_i hq
    subst hq
    cases some_ex hf
    refine V_aload_n dL_law_279 rfl ?_
    refine V_aload_n dL_law_280 rfl ?_
    refine V_iload_n dL_law_281 rfl ?_
    refine V_iconst dL_law_282 ckc_1 ?_
    refine V_iadd dL_law_283 ?_
    refine V_sld hX hb1 rfl dL_law_284 ?_
    refine V_aload_n dL_law_285 rfl ?_
    refine V_iload_n dL_law_286 rfl ?_
    refine V_iconst dL_law_287 ckc_2 ?_
    refine V_iadd dL_law_288 ?_
    refine V_sld hX hb2 rfl dL_law_289 ?_
    refine V_aload_n dL_law_290 rfl ?_
    refine V_iload_n dL_law_291 rfl ?_
    refine V_iconst dL_law_292 ckc_3 ?_
    refine V_iadd dL_law_293 ?_
    refine V_sld hX hb3 rfl dL_law_294 ?_
    refine V_aload_n dL_law_295 rfl ?_
    refine V_iload_n dL_law_296 rfl ?_
    refine V_iconst dL_law_297 ckc_4 ?_
    refine V_iadd dL_law_298 ?_
    refine V_sld hX hb4 rfl dL_law_299 ?_
    refine V_aload_n dL_law_300 rfl ?_
    refine V_iload_n dL_law_301 rfl ?_
    refine V_iconst dL_law_302 ckc_5 ?_
    refine V_iadd dL_law_303 ?_
    refine V_sld hX hb5 rfl dL_law_304 ?_
    refine V_aload_n dL_law_305 rfl ?_
    refine V_iload_n dL_law_306 rfl ?_
    refine V_bipush dL_law_307 ckb_6 ?_
    refine V_iadd dL_law_309 ?_
    refine V_sld hX hb6 rfl dL_law_310 ?_
    refine V_cV (av := [.int (ys (i + (1 : Int32)).toNatClampNeg), .int (ys (i + (2 : Int32)).toNatClampNeg), .int (ys (i + (3 : Int32)).toNatClampNeg), .int (ys (i + (4 : Int32)).toNatClampNeg), .int (ys (i + (5 : Int32)).toNatClampNeg), .int (ys (i + (6 : Int32)).toNatClampNeg)]) (rest := []) (st' := [.int r]) (callA hL (mC_X0_name_ok _ _ _ _ _ _ _ _ _ _ _ _ hA)) lvc_1 (WB_kx hL) (by decide) rfl rfl (Nat.le_of_ble_eq_true rfl) dL_law_311 rfl ?_
    refine V_aload_n dL_law_314 rfl ?_
    refine V_aload_n dL_law_315 rfl ?_
    refine V_iload_n dL_law_316 rfl ?_
    refine V_iconst dL_law_317 ckc_1 ?_
    refine V_iadd dL_law_318 ?_
    refine V_sld hX hb1 rfl dL_law_319 ?_
    refine V_aload_n dL_law_320 rfl ?_
    refine V_iload_n dL_law_321 rfl ?_
    refine V_iconst dL_law_322 ckc_2 ?_
    refine V_iadd dL_law_323 ?_
    refine V_sld hX hb2 rfl dL_law_324 ?_
    refine V_aload_n dL_law_325 rfl ?_
    refine V_iload_n dL_law_326 rfl ?_
    refine V_iconst dL_law_327 ckc_3 ?_
    refine V_iadd dL_law_328 ?_
    refine V_sld hX hb3 rfl dL_law_329 ?_
    refine V_aload_n dL_law_330 rfl ?_
    refine V_iload_n dL_law_331 rfl ?_
    refine V_iconst dL_law_332 ckc_4 ?_
    refine V_iadd dL_law_333 ?_
    refine V_sld hX hb4 rfl dL_law_334 ?_
    refine V_aload_n dL_law_335 rfl ?_
    refine V_iload_n dL_law_336 rfl ?_
    refine V_iconst dL_law_337 ckc_5 ?_
    refine V_iadd dL_law_338 ?_
    refine V_sld hX hb5 rfl dL_law_339 ?_
    refine V_aload_n dL_law_340 rfl ?_
    refine V_iload_n dL_law_341 rfl ?_
    refine V_bipush dL_law_342 ckb_6 ?_
    refine V_iadd dL_law_344 ?_
    refine V_sld hX hb6 rfl dL_law_345 ?_
    refine V_cV (av := [.int (ys (i + (1 : Int32)).toNatClampNeg), .int (ys (i + (2 : Int32)).toNatClampNeg), .int (ys (i + (3 : Int32)).toNatClampNeg), .int (ys (i + (4 : Int32)).toNatClampNeg), .int (ys (i + (5 : Int32)).toNatClampNeg), .int (ys (i + (6 : Int32)).toNatClampNeg)]) (rest := [.int r]) (st' := [.int r, .int r]) (callB (mM_name_ok _ _ _ h _ _ _ _ _ _ _ _ _ hB)) lvm_1 WB_kh (by decide) rfl rfl (Nat.le_of_ble_eq_true rfl) dL_law_346 rfl ?_
    refine V_icmp_eq (tgt := 2039) dL_law_349 (by decide) (fun _ => kk) (fun hq => absurd rfl hq)
  · cases hf
def lawArm_2 (ys : Nat → Int32) (L : Nat) (i : Int32) (x : Nat) (w : AH) (σ : SM) : Option (AH × SM) :=
  ck (bnd (i + (1 : Int32)) L) <|
  ck (bnd (i + (2 : Int32)) L) <|
  bd2 (mC_X0_row x (ys (i + (1 : Int32)).toNatClampNeg) (ys (i + (2 : Int32)).toNatClampNeg) w) fun r w1 =>
  bd2 (mM_row (ys (i + (1 : Int32)).toNatClampNeg) (ys (i + (2 : Int32)).toNatClampNeg) σ) fun r2 σ1 =>
  if r = r2 then some (w1, σ1) else none
theorem lawArm_2_L {h : Nat} {ys : Nat → Int32} {L : Nat} {i : Int32} {x : Nat} {w w1 : AH} {σ σ1 : SM} (hL : LI h x w) (hf : lawArm_2 ys L i x w σ = some (w1, σ1)) : LI h x w1 := by
  unfold lawArm_2 at hf
  obtain ⟨hb1, hf⟩ := ck_ex hf
  obtain ⟨hb2, hf⟩ := ck_ex hf
  obtain ⟨r, w2, hA, hf⟩ := bd2_ex hf
  obtain ⟨r2, σ2, hB, hf⟩ := bd2_ex hf
  split at hf
  · cases some_ex hf
    exact hL.ext (mC_X0_row_x _ _ _ _ _ _ hA)
  · cases hf
set_option maxHeartbeats 4000000 in
theorem lawArm_2_v {X : CX} {b L h x : Nat} {ys : Nat → Int32} {i : Int32} {w w1 : AH} {σ σ1 : SM} (hX : SX X b L ys) (hT : (xl X).stackTraces = false) (hL : LI h x w) (hf : lawArm_2 ys L i x w σ = some (w1, σ1))
    (kk : V X cL_law "FirstPollsLaw" 4 1000 (WB h w1 σ1) 2039 [some (.ref b), some (.ref x), some (.ref h), some (.int i)] []) : V X cL_law "FirstPollsLaw" 4 1000 (WB h w σ) 354 [some (.ref b), some (.ref x), some (.ref h), some (.int i)] [] := by
  unfold lawArm_2 at hf
  obtain ⟨hb1, hf⟩ := ck_ex hf
  obtain ⟨hb2, hf⟩ := ck_ex hf
  obtain ⟨r, w2, hA, hf⟩ := bd2_ex hf
  obtain ⟨r2, σ2, hB, hf⟩ := bd2_ex hf
  split at hf
  · rename_i hq
    subst hq
    cases some_ex hf
    refine V_aload_n dL_law_354 rfl ?_
    refine V_aload_n dL_law_355 rfl ?_
    refine V_iload_n dL_law_356 rfl ?_
    refine V_iconst dL_law_357 ckc_1 ?_
    refine V_iadd dL_law_358 ?_
    refine V_sld hX hb1 rfl dL_law_359 ?_
    refine V_aload_n dL_law_360 rfl ?_
    refine V_iload_n dL_law_361 rfl ?_
    refine V_iconst dL_law_362 ckc_2 ?_
    refine V_iadd dL_law_363 ?_
    refine V_sld hX hb2 rfl dL_law_364 ?_
    refine V_cV (av := [.int (ys (i + (1 : Int32)).toNatClampNeg), .int (ys (i + (2 : Int32)).toNatClampNeg)]) (rest := []) (st' := [.int r]) (callA hL (mC_X0_row_ok _ _ hT _ _ _ _ _ _ hA)) lvc_2 (WB_kx hL) (by decide) rfl rfl (Nat.le_of_ble_eq_true rfl) dL_law_365 rfl ?_
    refine V_aload_n dL_law_368 rfl ?_
    refine V_aload_n dL_law_369 rfl ?_
    refine V_iload_n dL_law_370 rfl ?_
    refine V_iconst dL_law_371 ckc_1 ?_
    refine V_iadd dL_law_372 ?_
    refine V_sld hX hb1 rfl dL_law_373 ?_
    refine V_aload_n dL_law_374 rfl ?_
    refine V_iload_n dL_law_375 rfl ?_
    refine V_iconst dL_law_376 ckc_2 ?_
    refine V_iadd dL_law_377 ?_
    refine V_sld hX hb2 rfl dL_law_378 ?_
    refine V_cV (av := [.int (ys (i + (1 : Int32)).toNatClampNeg), .int (ys (i + (2 : Int32)).toNatClampNeg)]) (rest := [.int r]) (st' := [.int r, .int r]) (callB (mM_row_ok _ _ _ h _ _ _ _ _ hB)) lvm_2 WB_kh (by decide) rfl rfl (Nat.le_of_ble_eq_true rfl) dL_law_379 rfl ?_
    refine V_icmp_eq (tgt := 2039) dL_law_382 (by decide) (fun _ => kk) (fun hq => absurd rfl hq)
  · cases hf
def lawArm_3 (ys : Nat → Int32) (L : Nat) (i : Int32) (x : Nat) (w : AH) (σ : SM) : Option (AH × SM) :=
  ck (bnd (i + (1 : Int32)) L) <|
  ck (bnd (i + (2 : Int32)) L) <|
  ck (bnd (i + (3 : Int32)) L) <|
  bd2 (mC_X0_off x (ys (i + (1 : Int32)).toNatClampNeg) (ys (i + (2 : Int32)).toNatClampNeg) (ys (i + (3 : Int32)).toNatClampNeg) w) fun r w1 =>
  bd2 (mM_off (ys (i + (1 : Int32)).toNatClampNeg) (ys (i + (2 : Int32)).toNatClampNeg) (ys (i + (3 : Int32)).toNatClampNeg) σ) fun r2 σ1 =>
  if r = r2 then some (w1, σ1) else none
theorem lawArm_3_L {h : Nat} {ys : Nat → Int32} {L : Nat} {i : Int32} {x : Nat} {w w1 : AH} {σ σ1 : SM} (hL : LI h x w) (hf : lawArm_3 ys L i x w σ = some (w1, σ1)) : LI h x w1 := by
  unfold lawArm_3 at hf
  obtain ⟨hb1, hf⟩ := ck_ex hf
  obtain ⟨hb2, hf⟩ := ck_ex hf
  obtain ⟨hb3, hf⟩ := ck_ex hf
  obtain ⟨r, w2, hA, hf⟩ := bd2_ex hf
  obtain ⟨r2, σ2, hB, hf⟩ := bd2_ex hf
  split at hf
  · cases some_ex hf
    exact hL.ext (mC_X0_off_x _ _ _ _ _ _ _ hA)
  · cases hf
set_option maxHeartbeats 4000000 in
theorem lawArm_3_v {X : CX} {b L h x : Nat} {ys : Nat → Int32} {i : Int32} {w w1 : AH} {σ σ1 : SM} (hX : SX X b L ys) (hT : (xl X).stackTraces = false) (hL : LI h x w) (hf : lawArm_3 ys L i x w σ = some (w1, σ1))
    (kk : V X cL_law "FirstPollsLaw" 4 1000 (WB h w1 σ1) 2039 [some (.ref b), some (.ref x), some (.ref h), some (.int i)] []) : V X cL_law "FirstPollsLaw" 4 1000 (WB h w σ) 387 [some (.ref b), some (.ref x), some (.ref h), some (.int i)] [] := by
  unfold lawArm_3 at hf
  obtain ⟨hb1, hf⟩ := ck_ex hf
  obtain ⟨hb2, hf⟩ := ck_ex hf
  obtain ⟨hb3, hf⟩ := ck_ex hf
  obtain ⟨r, w2, hA, hf⟩ := bd2_ex hf
  obtain ⟨r2, σ2, hB, hf⟩ := bd2_ex hf
  split at hf
  · rename_i hq
    subst hq
    cases some_ex hf
    refine V_aload_n dL_law_387 rfl ?_
    refine V_aload_n dL_law_388 rfl ?_
    refine V_iload_n dL_law_389 rfl ?_
    refine V_iconst dL_law_390 ckc_1 ?_
    refine V_iadd dL_law_391 ?_
    refine V_sld hX hb1 rfl dL_law_392 ?_
    refine V_aload_n dL_law_393 rfl ?_
    refine V_iload_n dL_law_394 rfl ?_
    refine V_iconst dL_law_395 ckc_2 ?_
    refine V_iadd dL_law_396 ?_
    refine V_sld hX hb2 rfl dL_law_397 ?_
    refine V_aload_n dL_law_398 rfl ?_
    refine V_iload_n dL_law_399 rfl ?_
    refine V_iconst dL_law_400 ckc_3 ?_
    refine V_iadd dL_law_401 ?_
    refine V_sld hX hb3 rfl dL_law_402 ?_
    refine V_cV (av := [.int (ys (i + (1 : Int32)).toNatClampNeg), .int (ys (i + (2 : Int32)).toNatClampNeg), .int (ys (i + (3 : Int32)).toNatClampNeg)]) (rest := []) (st' := [.int r]) (callA hL (mC_X0_off_ok _ _ _ _ _ _ _ _ _ hA)) lvc_3 (WB_kx hL) (by decide) rfl rfl (Nat.le_of_ble_eq_true rfl) dL_law_403 rfl ?_
    refine V_aload_n dL_law_406 rfl ?_
    refine V_aload_n dL_law_407 rfl ?_
    refine V_iload_n dL_law_408 rfl ?_
    refine V_iconst dL_law_409 ckc_1 ?_
    refine V_iadd dL_law_410 ?_
    refine V_sld hX hb1 rfl dL_law_411 ?_
    refine V_aload_n dL_law_412 rfl ?_
    refine V_iload_n dL_law_413 rfl ?_
    refine V_iconst dL_law_414 ckc_2 ?_
    refine V_iadd dL_law_415 ?_
    refine V_sld hX hb2 rfl dL_law_416 ?_
    refine V_aload_n dL_law_417 rfl ?_
    refine V_iload_n dL_law_418 rfl ?_
    refine V_iconst dL_law_419 ckc_3 ?_
    refine V_iadd dL_law_420 ?_
    refine V_sld hX hb3 rfl dL_law_421 ?_
    refine V_cV (av := [.int (ys (i + (1 : Int32)).toNatClampNeg), .int (ys (i + (2 : Int32)).toNatClampNeg), .int (ys (i + (3 : Int32)).toNatClampNeg)]) (rest := [.int r]) (st' := [.int r, .int r]) (callB (mM_off_ok _ _ _ h _ _ _ _ _ _ hB)) lvm_3 WB_kh (by decide) rfl rfl (Nat.le_of_ble_eq_true rfl) dL_law_422 rfl ?_
    refine V_icmp_eq (tgt := 2039) dL_law_425 (by decide) (fun _ => kk) (fun hq => absurd rfl hq)
  · cases hf
def lawArm_4 (ys : Nat → Int32) (L : Nat) (i : Int32) (x : Nat) (w : AH) (σ : SM) : Option (AH × SM) :=
  ck (bnd (i + (1 : Int32)) L) <|
  ck (bnd (i + (2 : Int32)) L) <|
  ck (bnd (i + (3 : Int32)) L) <|
  ck (bnd (i + (4 : Int32)) L) <|
  bd2 (mC_X0_moved x (ys (i + (1 : Int32)).toNatClampNeg) (ys (i + (2 : Int32)).toNatClampNeg) (ys (i + (3 : Int32)).toNatClampNeg) (ys (i + (4 : Int32)).toNatClampNeg) w) fun r w1 =>
  bd2 (mM_moved (ys (i + (1 : Int32)).toNatClampNeg) (ys (i + (2 : Int32)).toNatClampNeg) (ys (i + (3 : Int32)).toNatClampNeg) (ys (i + (4 : Int32)).toNatClampNeg) σ) fun r2 σ1 =>
  if r = r2 then some (w1, σ1) else none
theorem lawArm_4_L {h : Nat} {ys : Nat → Int32} {L : Nat} {i : Int32} {x : Nat} {w w1 : AH} {σ σ1 : SM} (hL : LI h x w) (hf : lawArm_4 ys L i x w σ = some (w1, σ1)) : LI h x w1 := by
  unfold lawArm_4 at hf
  obtain ⟨hb1, hf⟩ := ck_ex hf
  obtain ⟨hb2, hf⟩ := ck_ex hf
  obtain ⟨hb3, hf⟩ := ck_ex hf
  obtain ⟨hb4, hf⟩ := ck_ex hf
  obtain ⟨r, w2, hA, hf⟩ := bd2_ex hf
  obtain ⟨r2, σ2, hB, hf⟩ := bd2_ex hf
  split at hf
  · cases some_ex hf
    exact hL.ext (mC_X0_moved_x _ _ _ _ _ _ _ _ hA)
  · cases hf
set_option maxHeartbeats 4000000 in
theorem lawArm_4_v {X : CX} {b L h x : Nat} {ys : Nat → Int32} {i : Int32} {w w1 : AH} {σ σ1 : SM} (hX : SX X b L ys) (hT : (xl X).stackTraces = false) (hL : LI h x w) (hf : lawArm_4 ys L i x w σ = some (w1, σ1))
    (kk : V X cL_law "FirstPollsLaw" 4 1000 (WB h w1 σ1) 2039 [some (.ref b), some (.ref x), some (.ref h), some (.int i)] []) : V X cL_law "FirstPollsLaw" 4 1000 (WB h w σ) 430 [some (.ref b), some (.ref x), some (.ref h), some (.int i)] [] := by
  unfold lawArm_4 at hf
  obtain ⟨hb1, hf⟩ := ck_ex hf
  obtain ⟨hb2, hf⟩ := ck_ex hf
  obtain ⟨hb3, hf⟩ := ck_ex hf
  obtain ⟨hb4, hf⟩ := ck_ex hf
  obtain ⟨r, w2, hA, hf⟩ := bd2_ex hf
  obtain ⟨r2, σ2, hB, hf⟩ := bd2_ex hf
  split at hf
  · rename_i hq
    subst hq
    cases some_ex hf
    refine V_aload_n dL_law_430 rfl ?_
    refine V_aload_n dL_law_431 rfl ?_
    refine V_iload_n dL_law_432 rfl ?_
    refine V_iconst dL_law_433 ckc_1 ?_
    refine V_iadd dL_law_434 ?_
    refine V_sld hX hb1 rfl dL_law_435 ?_
    refine V_aload_n dL_law_436 rfl ?_
    refine V_iload_n dL_law_437 rfl ?_
    refine V_iconst dL_law_438 ckc_2 ?_
    refine V_iadd dL_law_439 ?_
    refine V_sld hX hb2 rfl dL_law_440 ?_
    refine V_aload_n dL_law_441 rfl ?_
    refine V_iload_n dL_law_442 rfl ?_
    refine V_iconst dL_law_443 ckc_3 ?_
    refine V_iadd dL_law_444 ?_
    refine V_sld hX hb3 rfl dL_law_445 ?_
    refine V_aload_n dL_law_446 rfl ?_
    refine V_iload_n dL_law_447 rfl ?_
    refine V_iconst dL_law_448 ckc_4 ?_
    refine V_iadd dL_law_449 ?_
    refine V_sld hX hb4 rfl dL_law_450 ?_
    refine V_cV (av := [.int (ys (i + (1 : Int32)).toNatClampNeg), .int (ys (i + (2 : Int32)).toNatClampNeg), .int (ys (i + (3 : Int32)).toNatClampNeg), .int (ys (i + (4 : Int32)).toNatClampNeg)]) (rest := []) (st' := [.int r]) (callA hL (mC_X0_moved_ok _ _ _ _ _ _ _ _ _ _ hA)) lvc_4 (WB_kx hL) (by decide) rfl rfl (Nat.le_of_ble_eq_true rfl) dL_law_451 rfl ?_
    refine V_aload_n dL_law_454 rfl ?_
    refine V_aload_n dL_law_455 rfl ?_
    refine V_iload_n dL_law_456 rfl ?_
    refine V_iconst dL_law_457 ckc_1 ?_
    refine V_iadd dL_law_458 ?_
    refine V_sld hX hb1 rfl dL_law_459 ?_
    refine V_aload_n dL_law_460 rfl ?_
    refine V_iload_n dL_law_461 rfl ?_
    refine V_iconst dL_law_462 ckc_2 ?_
    refine V_iadd dL_law_463 ?_
    refine V_sld hX hb2 rfl dL_law_464 ?_
    refine V_aload_n dL_law_465 rfl ?_
    refine V_iload_n dL_law_466 rfl ?_
    refine V_iconst dL_law_467 ckc_3 ?_
    refine V_iadd dL_law_468 ?_
    refine V_sld hX hb3 rfl dL_law_469 ?_
    refine V_aload_n dL_law_470 rfl ?_
    refine V_iload_n dL_law_471 rfl ?_
    refine V_iconst dL_law_472 ckc_4 ?_
    refine V_iadd dL_law_473 ?_
    refine V_sld hX hb4 rfl dL_law_474 ?_
    refine V_cV (av := [.int (ys (i + (1 : Int32)).toNatClampNeg), .int (ys (i + (2 : Int32)).toNatClampNeg), .int (ys (i + (3 : Int32)).toNatClampNeg), .int (ys (i + (4 : Int32)).toNatClampNeg)]) (rest := [.int r]) (st' := [.int r, .int r]) (callB (mM_moved_ok _ _ _ h _ _ _ _ _ _ _ hB)) lvm_4 WB_kh (by decide) rfl rfl (Nat.le_of_ble_eq_true rfl) dL_law_475 rfl ?_
    refine V_icmp_eq (tgt := 2039) dL_law_478 (by decide) (fun _ => kk) (fun hq => absurd rfl hq)
  · cases hf
def lawArm_5 (ys : Nat → Int32) (L : Nat) (i : Int32) (x : Nat) (w : AH) (σ : SM) : Option (AH × SM) :=
  ck (bnd (i + (1 : Int32)) L) <|
  ck (bnd (i + (2 : Int32)) L) <|
  bd1 (mC_X0_of x (ys (i + (1 : Int32)).toNatClampNeg) (ys (i + (2 : Int32)).toNatClampNeg) w) fun r =>
  bd2 (mM_of (ys (i + (1 : Int32)).toNatClampNeg) (ys (i + (2 : Int32)).toNatClampNeg) σ) fun r2 σ1 =>
  if r = r2 then some (w, σ1) else none
theorem lawArm_5_L {h : Nat} {ys : Nat → Int32} {L : Nat} {i : Int32} {x : Nat} {w w1 : AH} {σ σ1 : SM} (hL : LI h x w) (hf : lawArm_5 ys L i x w σ = some (w1, σ1)) : LI h x w1 := by
  unfold lawArm_5 at hf
  obtain ⟨hb1, hf⟩ := ck_ex hf
  obtain ⟨hb2, hf⟩ := ck_ex hf
  obtain ⟨r, hA, hf⟩ := bd1_ex hf
  obtain ⟨r2, σ2, hB, hf⟩ := bd2_ex hf
  split at hf
  · cases some_ex hf
    exact hL
  · cases hf
set_option maxHeartbeats 4000000 in
theorem lawArm_5_v {X : CX} {b L h x : Nat} {ys : Nat → Int32} {i : Int32} {w w1 : AH} {σ σ1 : SM} (hX : SX X b L ys) (hT : (xl X).stackTraces = false) (hL : LI h x w) (hf : lawArm_5 ys L i x w σ = some (w1, σ1))
    (kk : V X cL_law "FirstPollsLaw" 4 1000 (WB h w1 σ1) 2039 [some (.ref b), some (.ref x), some (.ref h), some (.int i)] []) : V X cL_law "FirstPollsLaw" 4 1000 (WB h w σ) 483 [some (.ref b), some (.ref x), some (.ref h), some (.int i)] [] := by
  unfold lawArm_5 at hf
  obtain ⟨hb1, hf⟩ := ck_ex hf
  obtain ⟨hb2, hf⟩ := ck_ex hf
  obtain ⟨r, hA, hf⟩ := bd1_ex hf
  obtain ⟨r2, σ2, hB, hf⟩ := bd2_ex hf
  split at hf
  · rename_i hq
    subst hq
    cases some_ex hf
    refine V_aload_n dL_law_483 rfl ?_
    refine V_aload_n dL_law_484 rfl ?_
    refine V_iload_n dL_law_485 rfl ?_
    refine V_iconst dL_law_486 ckc_1 ?_
    refine V_iadd dL_law_487 ?_
    refine V_sld hX hb1 rfl dL_law_488 ?_
    refine V_aload_n dL_law_489 rfl ?_
    refine V_iload_n dL_law_490 rfl ?_
    refine V_iconst dL_law_491 ckc_2 ?_
    refine V_iadd dL_law_492 ?_
    refine V_sld hX hb2 rfl dL_law_493 ?_
    refine V_cV (av := [.int (ys (i + (1 : Int32)).toNatClampNeg), .int (ys (i + (2 : Int32)).toNatClampNeg)]) (rest := []) (st' := [.int r]) (callA hL (mC_X0_of_ok _ _ _ _ _ _ _ hA)) lvc_5 (WB_kx hL) (by decide) rfl rfl (Nat.le_of_ble_eq_true rfl) dL_law_494 rfl ?_
    refine V_aload_n dL_law_497 rfl ?_
    refine V_aload_n dL_law_498 rfl ?_
    refine V_iload_n dL_law_499 rfl ?_
    refine V_iconst dL_law_500 ckc_1 ?_
    refine V_iadd dL_law_501 ?_
    refine V_sld hX hb1 rfl dL_law_502 ?_
    refine V_aload_n dL_law_503 rfl ?_
    refine V_iload_n dL_law_504 rfl ?_
    refine V_iconst dL_law_505 ckc_2 ?_
    refine V_iadd dL_law_506 ?_
    refine V_sld hX hb2 rfl dL_law_507 ?_
    refine V_cV (av := [.int (ys (i + (1 : Int32)).toNatClampNeg), .int (ys (i + (2 : Int32)).toNatClampNeg)]) (rest := [.int r]) (st' := [.int r, .int r]) (callB (mM_of_ok _ _ _ h _ _ _ _ _ hB)) lvm_5 WB_kh (by decide) rfl rfl (Nat.le_of_ble_eq_true rfl) dL_law_508 rfl ?_
    refine V_icmp_eq (tgt := 2039) dL_law_511 (by decide) (fun _ => kk) (fun hq => absurd rfl hq)
  · cases hf
def lawArm_6 (ys : Nat → Int32) (L : Nat) (i : Int32) (x : Nat) (w : AH) (σ : SM) : Option (AH × SM) :=
  ck (bnd (i + (1 : Int32)) L) <|
  ck (bnd (i + (2 : Int32)) L) <|
  ck (bnd (i + (3 : Int32)) L) <|
  bd1 (mC_X0_where x (ys (i + (1 : Int32)).toNatClampNeg) (ys (i + (2 : Int32)).toNatClampNeg) (ys (i + (3 : Int32)).toNatClampNeg) w) fun r =>
  bd2 (mM_where (ys (i + (1 : Int32)).toNatClampNeg) (ys (i + (2 : Int32)).toNatClampNeg) (ys (i + (3 : Int32)).toNatClampNeg) σ) fun r2 σ1 =>
  if r = r2 then some (w, σ1) else none
theorem lawArm_6_L {h : Nat} {ys : Nat → Int32} {L : Nat} {i : Int32} {x : Nat} {w w1 : AH} {σ σ1 : SM} (hL : LI h x w) (hf : lawArm_6 ys L i x w σ = some (w1, σ1)) : LI h x w1 := by
  unfold lawArm_6 at hf
  obtain ⟨hb1, hf⟩ := ck_ex hf
  obtain ⟨hb2, hf⟩ := ck_ex hf
  obtain ⟨hb3, hf⟩ := ck_ex hf
  obtain ⟨r, hA, hf⟩ := bd1_ex hf
  obtain ⟨r2, σ2, hB, hf⟩ := bd2_ex hf
  split at hf
  · cases some_ex hf
    exact hL
  · cases hf
set_option maxHeartbeats 4000000 in
theorem lawArm_6_v {X : CX} {b L h x : Nat} {ys : Nat → Int32} {i : Int32} {w w1 : AH} {σ σ1 : SM} (hX : SX X b L ys) (hT : (xl X).stackTraces = false) (hL : LI h x w) (hf : lawArm_6 ys L i x w σ = some (w1, σ1))
    (kk : V X cL_law "FirstPollsLaw" 4 1000 (WB h w1 σ1) 2039 [some (.ref b), some (.ref x), some (.ref h), some (.int i)] []) : V X cL_law "FirstPollsLaw" 4 1000 (WB h w σ) 516 [some (.ref b), some (.ref x), some (.ref h), some (.int i)] [] := by
  unfold lawArm_6 at hf
  obtain ⟨hb1, hf⟩ := ck_ex hf
  obtain ⟨hb2, hf⟩ := ck_ex hf
  obtain ⟨hb3, hf⟩ := ck_ex hf
  obtain ⟨r, hA, hf⟩ := bd1_ex hf
  obtain ⟨r2, σ2, hB, hf⟩ := bd2_ex hf
  split at hf
  · rename_i hq
    subst hq
    cases some_ex hf
    refine V_aload_n dL_law_516 rfl ?_
    refine V_aload_n dL_law_517 rfl ?_
    refine V_iload_n dL_law_518 rfl ?_
    refine V_iconst dL_law_519 ckc_1 ?_
    refine V_iadd dL_law_520 ?_
    refine V_sld hX hb1 rfl dL_law_521 ?_
    refine V_aload_n dL_law_522 rfl ?_
    refine V_iload_n dL_law_523 rfl ?_
    refine V_iconst dL_law_524 ckc_2 ?_
    refine V_iadd dL_law_525 ?_
    refine V_sld hX hb2 rfl dL_law_526 ?_
    refine V_aload_n dL_law_527 rfl ?_
    refine V_iload_n dL_law_528 rfl ?_
    refine V_iconst dL_law_529 ckc_3 ?_
    refine V_iadd dL_law_530 ?_
    refine V_sld hX hb3 rfl dL_law_531 ?_
    refine V_cV (av := [.int (ys (i + (1 : Int32)).toNatClampNeg), .int (ys (i + (2 : Int32)).toNatClampNeg), .int (ys (i + (3 : Int32)).toNatClampNeg)]) (rest := []) (st' := [.int r]) (callA hL (mC_X0_where_ok _ _ _ _ _ _ _ _ hA)) lvc_6 (WB_kx hL) (by decide) rfl rfl (Nat.le_of_ble_eq_true rfl) dL_law_532 rfl ?_
    refine V_aload_n dL_law_535 rfl ?_
    refine V_aload_n dL_law_536 rfl ?_
    refine V_iload_n dL_law_537 rfl ?_
    refine V_iconst dL_law_538 ckc_1 ?_
    refine V_iadd dL_law_539 ?_
    refine V_sld hX hb1 rfl dL_law_540 ?_
    refine V_aload_n dL_law_541 rfl ?_
    refine V_iload_n dL_law_542 rfl ?_
    refine V_iconst dL_law_543 ckc_2 ?_
    refine V_iadd dL_law_544 ?_
    refine V_sld hX hb2 rfl dL_law_545 ?_
    refine V_aload_n dL_law_546 rfl ?_
    refine V_iload_n dL_law_547 rfl ?_
    refine V_iconst dL_law_548 ckc_3 ?_
    refine V_iadd dL_law_549 ?_
    refine V_sld hX hb3 rfl dL_law_550 ?_
    refine V_cV (av := [.int (ys (i + (1 : Int32)).toNatClampNeg), .int (ys (i + (2 : Int32)).toNatClampNeg), .int (ys (i + (3 : Int32)).toNatClampNeg)]) (rest := [.int r]) (st' := [.int r, .int r]) (callB (mM_where_ok _ _ _ h _ _ _ _ _ _ hB)) lvm_6 WB_kh (by decide) rfl rfl (Nat.le_of_ble_eq_true rfl) dL_law_551 rfl ?_
    refine V_icmp_eq (tgt := 2039) dL_law_554 (by decide) (fun _ => kk) (fun hq => absurd rfl hq)
  · cases hf
def lawArm_7 (ys : Nat → Int32) (L : Nat) (i : Int32) (x : Nat) (w : AH) (σ : SM) : Option (AH × SM) :=
  ck (bnd (i + (1 : Int32)) L) <|
  ck (bnd (i + (2 : Int32)) L) <|
  ck (bnd (i + (3 : Int32)) L) <|
  bd2 (mC_X0_on x (ys (i + (1 : Int32)).toNatClampNeg) (ys (i + (2 : Int32)).toNatClampNeg) (ys (i + (3 : Int32)).toNatClampNeg) w) fun r w1 =>
  bd2 (mM_on (ys (i + (1 : Int32)).toNatClampNeg) (ys (i + (2 : Int32)).toNatClampNeg) (ys (i + (3 : Int32)).toNatClampNeg) σ) fun r2 σ1 =>
  if r = r2 then some (w1, σ1) else none
theorem lawArm_7_L {h : Nat} {ys : Nat → Int32} {L : Nat} {i : Int32} {x : Nat} {w w1 : AH} {σ σ1 : SM} (hL : LI h x w) (hf : lawArm_7 ys L i x w σ = some (w1, σ1)) : LI h x w1 := by
  unfold lawArm_7 at hf
  obtain ⟨hb1, hf⟩ := ck_ex hf
  obtain ⟨hb2, hf⟩ := ck_ex hf
  obtain ⟨hb3, hf⟩ := ck_ex hf
  obtain ⟨r, w2, hA, hf⟩ := bd2_ex hf
  obtain ⟨r2, σ2, hB, hf⟩ := bd2_ex hf
  split at hf
  · cases some_ex hf
    exact hL.ext (mC_X0_on_x _ _ _ _ _ _ _ hA)
  · cases hf
set_option maxHeartbeats 4000000 in
theorem lawArm_7_v {X : CX} {b L h x : Nat} {ys : Nat → Int32} {i : Int32} {w w1 : AH} {σ σ1 : SM} (hX : SX X b L ys) (hT : (xl X).stackTraces = false) (hL : LI h x w) (hf : lawArm_7 ys L i x w σ = some (w1, σ1))
    (kk : V X cL_law "FirstPollsLaw" 4 1000 (WB h w1 σ1) 2039 [some (.ref b), some (.ref x), some (.ref h), some (.int i)] []) : V X cL_law "FirstPollsLaw" 4 1000 (WB h w σ) 559 [some (.ref b), some (.ref x), some (.ref h), some (.int i)] [] := by
  unfold lawArm_7 at hf
  obtain ⟨hb1, hf⟩ := ck_ex hf
  obtain ⟨hb2, hf⟩ := ck_ex hf
  obtain ⟨hb3, hf⟩ := ck_ex hf
  obtain ⟨r, w2, hA, hf⟩ := bd2_ex hf
  obtain ⟨r2, σ2, hB, hf⟩ := bd2_ex hf
  split at hf
  · rename_i hq
    subst hq
    cases some_ex hf
    refine V_aload_n dL_law_559 rfl ?_
    refine V_aload_n dL_law_560 rfl ?_
    refine V_iload_n dL_law_561 rfl ?_
    refine V_iconst dL_law_562 ckc_1 ?_
    refine V_iadd dL_law_563 ?_
    refine V_sld hX hb1 rfl dL_law_564 ?_
    refine V_aload_n dL_law_565 rfl ?_
    refine V_iload_n dL_law_566 rfl ?_
    refine V_iconst dL_law_567 ckc_2 ?_
    refine V_iadd dL_law_568 ?_
    refine V_sld hX hb2 rfl dL_law_569 ?_
    refine V_aload_n dL_law_570 rfl ?_
    refine V_iload_n dL_law_571 rfl ?_
    refine V_iconst dL_law_572 ckc_3 ?_
    refine V_iadd dL_law_573 ?_
    refine V_sld hX hb3 rfl dL_law_574 ?_
    refine V_cV (av := [.int (ys (i + (1 : Int32)).toNatClampNeg), .int (ys (i + (2 : Int32)).toNatClampNeg), .int (ys (i + (3 : Int32)).toNatClampNeg)]) (rest := []) (st' := [.int r]) (callA hL (mC_X0_on_ok _ _ _ _ _ _ _ _ _ hA)) lvc_7 (WB_kx hL) (by decide) rfl rfl (Nat.le_of_ble_eq_true rfl) dL_law_575 rfl ?_
    refine V_aload_n dL_law_578 rfl ?_
    refine V_aload_n dL_law_579 rfl ?_
    refine V_iload_n dL_law_580 rfl ?_
    refine V_iconst dL_law_581 ckc_1 ?_
    refine V_iadd dL_law_582 ?_
    refine V_sld hX hb1 rfl dL_law_583 ?_
    refine V_aload_n dL_law_584 rfl ?_
    refine V_iload_n dL_law_585 rfl ?_
    refine V_iconst dL_law_586 ckc_2 ?_
    refine V_iadd dL_law_587 ?_
    refine V_sld hX hb2 rfl dL_law_588 ?_
    refine V_aload_n dL_law_589 rfl ?_
    refine V_iload_n dL_law_590 rfl ?_
    refine V_iconst dL_law_591 ckc_3 ?_
    refine V_iadd dL_law_592 ?_
    refine V_sld hX hb3 rfl dL_law_593 ?_
    refine V_cV (av := [.int (ys (i + (1 : Int32)).toNatClampNeg), .int (ys (i + (2 : Int32)).toNatClampNeg), .int (ys (i + (3 : Int32)).toNatClampNeg)]) (rest := [.int r]) (st' := [.int r, .int r]) (callB (mM_on_ok _ _ _ h _ _ _ _ _ _ hB)) lvm_7 WB_kh (by decide) rfl rfl (Nat.le_of_ble_eq_true rfl) dL_law_594 rfl ?_
    refine V_icmp_eq (tgt := 2039) dL_law_597 (by decide) (fun _ => kk) (fun hq => absurd rfl hq)
  · cases hf
def lawArm_8 (ys : Nat → Int32) (L : Nat) (i : Int32) (x : Nat) (w : AH) (σ : SM) : Option (AH × SM) :=
  ck (bnd (i + (1 : Int32)) L) <|
  ck (bnd (i + (2 : Int32)) L) <|
  ck (bnd (i + (3 : Int32)) L) <|
  bd2 (mC_X0_roll x (ys (i + (1 : Int32)).toNatClampNeg) (ys (i + (2 : Int32)).toNatClampNeg) (ys (i + (3 : Int32)).toNatClampNeg) w) fun r w1 =>
  bd2 (mM_roll (ys (i + (1 : Int32)).toNatClampNeg) (ys (i + (2 : Int32)).toNatClampNeg) (ys (i + (3 : Int32)).toNatClampNeg) σ) fun r2 σ1 =>
  if r = r2 then some (w1, σ1) else none
theorem lawArm_8_L {h : Nat} {ys : Nat → Int32} {L : Nat} {i : Int32} {x : Nat} {w w1 : AH} {σ σ1 : SM} (hL : LI h x w) (hf : lawArm_8 ys L i x w σ = some (w1, σ1)) : LI h x w1 := by
  unfold lawArm_8 at hf
  obtain ⟨hb1, hf⟩ := ck_ex hf
  obtain ⟨hb2, hf⟩ := ck_ex hf
  obtain ⟨hb3, hf⟩ := ck_ex hf
  obtain ⟨r, w2, hA, hf⟩ := bd2_ex hf
  obtain ⟨r2, σ2, hB, hf⟩ := bd2_ex hf
  split at hf
  · cases some_ex hf
    exact hL.ext (mC_X0_roll_x _ _ _ _ _ _ _ hA)
  · cases hf
set_option maxHeartbeats 4000000 in
theorem lawArm_8_v {X : CX} {b L h x : Nat} {ys : Nat → Int32} {i : Int32} {w w1 : AH} {σ σ1 : SM} (hX : SX X b L ys) (hT : (xl X).stackTraces = false) (hL : LI h x w) (hf : lawArm_8 ys L i x w σ = some (w1, σ1))
    (kk : V X cL_law "FirstPollsLaw" 4 1000 (WB h w1 σ1) 2039 [some (.ref b), some (.ref x), some (.ref h), some (.int i)] []) : V X cL_law "FirstPollsLaw" 4 1000 (WB h w σ) 602 [some (.ref b), some (.ref x), some (.ref h), some (.int i)] [] := by
  unfold lawArm_8 at hf
  obtain ⟨hb1, hf⟩ := ck_ex hf
  obtain ⟨hb2, hf⟩ := ck_ex hf
  obtain ⟨hb3, hf⟩ := ck_ex hf
  obtain ⟨r, w2, hA, hf⟩ := bd2_ex hf
  obtain ⟨r2, σ2, hB, hf⟩ := bd2_ex hf
  split at hf
  · rename_i hq
    subst hq
    cases some_ex hf
    refine V_aload_n dL_law_602 rfl ?_
    refine V_aload_n dL_law_603 rfl ?_
    refine V_iload_n dL_law_604 rfl ?_
    refine V_iconst dL_law_605 ckc_1 ?_
    refine V_iadd dL_law_606 ?_
    refine V_sld hX hb1 rfl dL_law_607 ?_
    refine V_aload_n dL_law_608 rfl ?_
    refine V_iload_n dL_law_609 rfl ?_
    refine V_iconst dL_law_610 ckc_2 ?_
    refine V_iadd dL_law_611 ?_
    refine V_sld hX hb2 rfl dL_law_612 ?_
    refine V_aload_n dL_law_613 rfl ?_
    refine V_iload_n dL_law_614 rfl ?_
    refine V_iconst dL_law_615 ckc_3 ?_
    refine V_iadd dL_law_616 ?_
    refine V_sld hX hb3 rfl dL_law_617 ?_
    refine V_cV (av := [.int (ys (i + (1 : Int32)).toNatClampNeg), .int (ys (i + (2 : Int32)).toNatClampNeg), .int (ys (i + (3 : Int32)).toNatClampNeg)]) (rest := []) (st' := [.int r]) (callA hL (mC_X0_roll_ok _ _ _ _ _ _ _ _ _ hA)) lvc_8 (WB_kx hL) (by decide) rfl rfl (Nat.le_of_ble_eq_true rfl) dL_law_618 rfl ?_
    refine V_aload_n dL_law_621 rfl ?_
    refine V_aload_n dL_law_622 rfl ?_
    refine V_iload_n dL_law_623 rfl ?_
    refine V_iconst dL_law_624 ckc_1 ?_
    refine V_iadd dL_law_625 ?_
    refine V_sld hX hb1 rfl dL_law_626 ?_
    refine V_aload_n dL_law_627 rfl ?_
    refine V_iload_n dL_law_628 rfl ?_
    refine V_iconst dL_law_629 ckc_2 ?_
    refine V_iadd dL_law_630 ?_
    refine V_sld hX hb2 rfl dL_law_631 ?_
    refine V_aload_n dL_law_632 rfl ?_
    refine V_iload_n dL_law_633 rfl ?_
    refine V_iconst dL_law_634 ckc_3 ?_
    refine V_iadd dL_law_635 ?_
    refine V_sld hX hb3 rfl dL_law_636 ?_
    refine V_cV (av := [.int (ys (i + (1 : Int32)).toNatClampNeg), .int (ys (i + (2 : Int32)).toNatClampNeg), .int (ys (i + (3 : Int32)).toNatClampNeg)]) (rest := [.int r]) (st' := [.int r, .int r]) (callB (mM_roll_ok _ _ _ h _ _ _ _ _ _ hB)) lvm_8 WB_kh (by decide) rfl rfl (Nat.le_of_ble_eq_true rfl) dL_law_637 rfl ?_
    refine V_icmp_eq (tgt := 2039) dL_law_640 (by decide) (fun _ => kk) (fun hq => absurd rfl hq)
  · cases hf
def lawArm_9 (ys : Nat → Int32) (L : Nat) (i : Int32) (x : Nat) (w : AH) (σ : SM) : Option (AH × SM) :=
  ck (bnd (i + (1 : Int32)) L) <|
  ck (bnd (i + (2 : Int32)) L) <|
  bd1 (mC_X0_like x (ys (i + (1 : Int32)).toNatClampNeg) (ys (i + (2 : Int32)).toNatClampNeg) w) fun r =>
  bd2 (mM_like (ys (i + (1 : Int32)).toNatClampNeg) (ys (i + (2 : Int32)).toNatClampNeg) σ) fun r2 σ1 =>
  if r = r2 then some (w, σ1) else none
theorem lawArm_9_L {h : Nat} {ys : Nat → Int32} {L : Nat} {i : Int32} {x : Nat} {w w1 : AH} {σ σ1 : SM} (hL : LI h x w) (hf : lawArm_9 ys L i x w σ = some (w1, σ1)) : LI h x w1 := by
  unfold lawArm_9 at hf
  obtain ⟨hb1, hf⟩ := ck_ex hf
  obtain ⟨hb2, hf⟩ := ck_ex hf
  obtain ⟨r, hA, hf⟩ := bd1_ex hf
  obtain ⟨r2, σ2, hB, hf⟩ := bd2_ex hf
  split at hf
  · cases some_ex hf
    exact hL
  · cases hf
set_option maxHeartbeats 4000000 in
theorem lawArm_9_v {X : CX} {b L h x : Nat} {ys : Nat → Int32} {i : Int32} {w w1 : AH} {σ σ1 : SM} (hX : SX X b L ys) (hT : (xl X).stackTraces = false) (hL : LI h x w) (hf : lawArm_9 ys L i x w σ = some (w1, σ1))
    (kk : V X cL_law "FirstPollsLaw" 4 1000 (WB h w1 σ1) 2039 [some (.ref b), some (.ref x), some (.ref h), some (.int i)] []) : V X cL_law "FirstPollsLaw" 4 1000 (WB h w σ) 645 [some (.ref b), some (.ref x), some (.ref h), some (.int i)] [] := by
  unfold lawArm_9 at hf
  obtain ⟨hb1, hf⟩ := ck_ex hf
  obtain ⟨hb2, hf⟩ := ck_ex hf
  obtain ⟨r, hA, hf⟩ := bd1_ex hf
  obtain ⟨r2, σ2, hB, hf⟩ := bd2_ex hf
  split at hf
  · rename_i hq
    subst hq
    cases some_ex hf
    refine V_aload_n dL_law_645 rfl ?_
    refine V_aload_n dL_law_646 rfl ?_
    refine V_iload_n dL_law_647 rfl ?_
    refine V_iconst dL_law_648 ckc_1 ?_
    refine V_iadd dL_law_649 ?_
    refine V_sld hX hb1 rfl dL_law_650 ?_
    refine V_aload_n dL_law_651 rfl ?_
    refine V_iload_n dL_law_652 rfl ?_
    refine V_iconst dL_law_653 ckc_2 ?_
    refine V_iadd dL_law_654 ?_
    refine V_sld hX hb2 rfl dL_law_655 ?_
    refine V_cV (av := [.int (ys (i + (1 : Int32)).toNatClampNeg), .int (ys (i + (2 : Int32)).toNatClampNeg)]) (rest := []) (st' := [.int r]) (callA hL (mC_X0_like_ok _ _ _ _ _ _ _ hA)) lvc_9 (WB_kx hL) (by decide) rfl rfl (Nat.le_of_ble_eq_true rfl) dL_law_656 rfl ?_
    refine V_aload_n dL_law_659 rfl ?_
    refine V_aload_n dL_law_660 rfl ?_
    refine V_iload_n dL_law_661 rfl ?_
    refine V_iconst dL_law_662 ckc_1 ?_
    refine V_iadd dL_law_663 ?_
    refine V_sld hX hb1 rfl dL_law_664 ?_
    refine V_aload_n dL_law_665 rfl ?_
    refine V_iload_n dL_law_666 rfl ?_
    refine V_iconst dL_law_667 ckc_2 ?_
    refine V_iadd dL_law_668 ?_
    refine V_sld hX hb2 rfl dL_law_669 ?_
    refine V_cV (av := [.int (ys (i + (1 : Int32)).toNatClampNeg), .int (ys (i + (2 : Int32)).toNatClampNeg)]) (rest := [.int r]) (st' := [.int r, .int r]) (callB (mM_like_ok _ _ _ h _ _ _ _ _ hB)) lvm_9 WB_kh (by decide) rfl rfl (Nat.le_of_ble_eq_true rfl) dL_law_670 rfl ?_
    refine V_icmp_eq (tgt := 2039) dL_law_673 (by decide) (fun _ => kk) (fun hq => absurd rfl hq)
  · cases hf
def lawArm_10 (ys : Nat → Int32) (L : Nat) (i : Int32) (x : Nat) (w : AH) (σ : SM) : Option (AH × SM) :=
  ck (bnd (i + (1 : Int32)) L) <|
  ck (bnd (i + (2 : Int32)) L) <|
  bd2 (mC_X0_apart x (ys (i + (1 : Int32)).toNatClampNeg) (ys (i + (2 : Int32)).toNatClampNeg) w) fun r w1 =>
  bd2 (mM_apart (ys (i + (1 : Int32)).toNatClampNeg) (ys (i + (2 : Int32)).toNatClampNeg) σ) fun r2 σ1 =>
  if r = r2 then some (w1, σ1) else none
theorem lawArm_10_L {h : Nat} {ys : Nat → Int32} {L : Nat} {i : Int32} {x : Nat} {w w1 : AH} {σ σ1 : SM} (hL : LI h x w) (hf : lawArm_10 ys L i x w σ = some (w1, σ1)) : LI h x w1 := by
  unfold lawArm_10 at hf
  obtain ⟨hb1, hf⟩ := ck_ex hf
  obtain ⟨hb2, hf⟩ := ck_ex hf
  obtain ⟨r, w2, hA, hf⟩ := bd2_ex hf
  obtain ⟨r2, σ2, hB, hf⟩ := bd2_ex hf
  split at hf
  · cases some_ex hf
    exact hL.ext (mC_X0_apart_x _ _ _ _ _ _ hA)
  · cases hf
set_option maxHeartbeats 4000000 in
theorem lawArm_10_v {X : CX} {b L h x : Nat} {ys : Nat → Int32} {i : Int32} {w w1 : AH} {σ σ1 : SM} (hX : SX X b L ys) (hT : (xl X).stackTraces = false) (hL : LI h x w) (hf : lawArm_10 ys L i x w σ = some (w1, σ1))
    (kk : V X cL_law "FirstPollsLaw" 4 1000 (WB h w1 σ1) 2039 [some (.ref b), some (.ref x), some (.ref h), some (.int i)] []) : V X cL_law "FirstPollsLaw" 4 1000 (WB h w σ) 678 [some (.ref b), some (.ref x), some (.ref h), some (.int i)] [] := by
  unfold lawArm_10 at hf
  obtain ⟨hb1, hf⟩ := ck_ex hf
  obtain ⟨hb2, hf⟩ := ck_ex hf
  obtain ⟨r, w2, hA, hf⟩ := bd2_ex hf
  obtain ⟨r2, σ2, hB, hf⟩ := bd2_ex hf
  split at hf
  · rename_i hq
    subst hq
    cases some_ex hf
    refine V_aload_n dL_law_678 rfl ?_
    refine V_aload_n dL_law_679 rfl ?_
    refine V_iload_n dL_law_680 rfl ?_
    refine V_iconst dL_law_681 ckc_1 ?_
    refine V_iadd dL_law_682 ?_
    refine V_sld hX hb1 rfl dL_law_683 ?_
    refine V_aload_n dL_law_684 rfl ?_
    refine V_iload_n dL_law_685 rfl ?_
    refine V_iconst dL_law_686 ckc_2 ?_
    refine V_iadd dL_law_687 ?_
    refine V_sld hX hb2 rfl dL_law_688 ?_
    refine V_cV (av := [.int (ys (i + (1 : Int32)).toNatClampNeg), .int (ys (i + (2 : Int32)).toNatClampNeg)]) (rest := []) (st' := [.int r]) (callA hL (mC_X0_apart_ok _ _ _ _ _ _ _ _ hA)) lvc_10 (WB_kx hL) (by decide) rfl rfl (Nat.le_of_ble_eq_true rfl) dL_law_689 rfl ?_
    refine V_aload_n dL_law_692 rfl ?_
    refine V_aload_n dL_law_693 rfl ?_
    refine V_iload_n dL_law_694 rfl ?_
    refine V_iconst dL_law_695 ckc_1 ?_
    refine V_iadd dL_law_696 ?_
    refine V_sld hX hb1 rfl dL_law_697 ?_
    refine V_aload_n dL_law_698 rfl ?_
    refine V_iload_n dL_law_699 rfl ?_
    refine V_iconst dL_law_700 ckc_2 ?_
    refine V_iadd dL_law_701 ?_
    refine V_sld hX hb2 rfl dL_law_702 ?_
    refine V_cV (av := [.int (ys (i + (1 : Int32)).toNatClampNeg), .int (ys (i + (2 : Int32)).toNatClampNeg)]) (rest := [.int r]) (st' := [.int r, .int r]) (callB (mM_apart_ok _ _ _ h _ _ _ _ _ hB)) lvm_10 WB_kh (by decide) rfl rfl (Nat.le_of_ble_eq_true rfl) dL_law_703 rfl ?_
    refine V_icmp_eq (tgt := 2039) dL_law_706 (by decide) (fun _ => kk) (fun hq => absurd rfl hq)
  · cases hf
def lawArm_11 (ys : Nat → Int32) (L : Nat) (i : Int32) (x : Nat) (w : AH) (σ : SM) : Option (AH × SM) :=
  ck (bnd (i + (1 : Int32)) L) <|
  ck (bnd (i + (2 : Int32)) L) <|
  ck (bnd (i + (3 : Int32)) L) <|
  bd2 (mC_X0_twice x (ys (i + (1 : Int32)).toNatClampNeg) (ys (i + (2 : Int32)).toNatClampNeg) (ys (i + (3 : Int32)).toNatClampNeg) w) fun r w1 =>
  bd2 (mM_twice (ys (i + (1 : Int32)).toNatClampNeg) (ys (i + (2 : Int32)).toNatClampNeg) (ys (i + (3 : Int32)).toNatClampNeg) σ) fun r2 σ1 =>
  if r = r2 then some (w1, σ1) else none
theorem lawArm_11_L {h : Nat} {ys : Nat → Int32} {L : Nat} {i : Int32} {x : Nat} {w w1 : AH} {σ σ1 : SM} (hL : LI h x w) (hf : lawArm_11 ys L i x w σ = some (w1, σ1)) : LI h x w1 := by
  unfold lawArm_11 at hf
  obtain ⟨hb1, hf⟩ := ck_ex hf
  obtain ⟨hb2, hf⟩ := ck_ex hf
  obtain ⟨hb3, hf⟩ := ck_ex hf
  obtain ⟨r, w2, hA, hf⟩ := bd2_ex hf
  obtain ⟨r2, σ2, hB, hf⟩ := bd2_ex hf
  split at hf
  · cases some_ex hf
    exact hL.ext (mC_X0_twice_x _ _ _ _ _ _ _ hA)
  · cases hf
set_option maxHeartbeats 4000000 in
theorem lawArm_11_v {X : CX} {b L h x : Nat} {ys : Nat → Int32} {i : Int32} {w w1 : AH} {σ σ1 : SM} (hX : SX X b L ys) (hT : (xl X).stackTraces = false) (hL : LI h x w) (hf : lawArm_11 ys L i x w σ = some (w1, σ1))
    (kk : V X cL_law "FirstPollsLaw" 4 1000 (WB h w1 σ1) 2039 [some (.ref b), some (.ref x), some (.ref h), some (.int i)] []) : V X cL_law "FirstPollsLaw" 4 1000 (WB h w σ) 711 [some (.ref b), some (.ref x), some (.ref h), some (.int i)] [] := by
  unfold lawArm_11 at hf
  obtain ⟨hb1, hf⟩ := ck_ex hf
  obtain ⟨hb2, hf⟩ := ck_ex hf
  obtain ⟨hb3, hf⟩ := ck_ex hf
  obtain ⟨r, w2, hA, hf⟩ := bd2_ex hf
  obtain ⟨r2, σ2, hB, hf⟩ := bd2_ex hf
  split at hf
  · rename_i hq
    subst hq
    cases some_ex hf
    refine V_aload_n dL_law_711 rfl ?_
    refine V_aload_n dL_law_712 rfl ?_
    refine V_iload_n dL_law_713 rfl ?_
    refine V_iconst dL_law_714 ckc_1 ?_
    refine V_iadd dL_law_715 ?_
    refine V_sld hX hb1 rfl dL_law_716 ?_
    refine V_aload_n dL_law_717 rfl ?_
    refine V_iload_n dL_law_718 rfl ?_
    refine V_iconst dL_law_719 ckc_2 ?_
    refine V_iadd dL_law_720 ?_
    refine V_sld hX hb2 rfl dL_law_721 ?_
    refine V_aload_n dL_law_722 rfl ?_
    refine V_iload_n dL_law_723 rfl ?_
    refine V_iconst dL_law_724 ckc_3 ?_
    refine V_iadd dL_law_725 ?_
    refine V_sld hX hb3 rfl dL_law_726 ?_
    refine V_cV (av := [.int (ys (i + (1 : Int32)).toNatClampNeg), .int (ys (i + (2 : Int32)).toNatClampNeg), .int (ys (i + (3 : Int32)).toNatClampNeg)]) (rest := []) (st' := [.int r]) (callA hL (mC_X0_twice_ok _ _ _ _ _ _ _ _ _ hA)) lvc_11 (WB_kx hL) (by decide) rfl rfl (Nat.le_of_ble_eq_true rfl) dL_law_727 rfl ?_
    refine V_aload_n dL_law_730 rfl ?_
    refine V_aload_n dL_law_731 rfl ?_
    refine V_iload_n dL_law_732 rfl ?_
    refine V_iconst dL_law_733 ckc_1 ?_
    refine V_iadd dL_law_734 ?_
    refine V_sld hX hb1 rfl dL_law_735 ?_
    refine V_aload_n dL_law_736 rfl ?_
    refine V_iload_n dL_law_737 rfl ?_
    refine V_iconst dL_law_738 ckc_2 ?_
    refine V_iadd dL_law_739 ?_
    refine V_sld hX hb2 rfl dL_law_740 ?_
    refine V_aload_n dL_law_741 rfl ?_
    refine V_iload_n dL_law_742 rfl ?_
    refine V_iconst dL_law_743 ckc_3 ?_
    refine V_iadd dL_law_744 ?_
    refine V_sld hX hb3 rfl dL_law_745 ?_
    refine V_cV (av := [.int (ys (i + (1 : Int32)).toNatClampNeg), .int (ys (i + (2 : Int32)).toNatClampNeg), .int (ys (i + (3 : Int32)).toNatClampNeg)]) (rest := [.int r]) (st' := [.int r, .int r]) (callB (mM_twice_ok _ _ _ h _ _ _ _ _ _ hB)) lvm_11 WB_kh (by decide) rfl rfl (Nat.le_of_ble_eq_true rfl) dL_law_746 rfl ?_
    refine V_icmp_eq (tgt := 2039) dL_law_749 (by decide) (fun _ => kk) (fun hq => absurd rfl hq)
  · cases hf
def lawArm_12 (ys : Nat → Int32) (L : Nat) (i : Int32) (x : Nat) (w : AH) (σ : SM) : Option (AH × SM) :=
  ck (bnd (i + (1 : Int32)) L) <|
  ck (bnd (i + (2 : Int32)) L) <|
  ck (bnd (i + (3 : Int32)) L) <|
  ck (bnd (i + (4 : Int32)) L) <|
  ck (bnd (i + (5 : Int32)) L) <|
  bd2 (mC_X0_feed x (ys (i + (1 : Int32)).toNatClampNeg) (ys (i + (2 : Int32)).toNatClampNeg) (ys (i + (3 : Int32)).toNatClampNeg) (ys (i + (4 : Int32)).toNatClampNeg) (ys (i + (5 : Int32)).toNatClampNeg) w) fun r w1 =>
  bd2 (mM_feed (ys (i + (1 : Int32)).toNatClampNeg) (ys (i + (2 : Int32)).toNatClampNeg) (ys (i + (3 : Int32)).toNatClampNeg) (ys (i + (4 : Int32)).toNatClampNeg) (ys (i + (5 : Int32)).toNatClampNeg) σ) fun r2 σ1 =>
  if r = r2 then some (w1, σ1) else none
theorem lawArm_12_L {h : Nat} {ys : Nat → Int32} {L : Nat} {i : Int32} {x : Nat} {w w1 : AH} {σ σ1 : SM} (hL : LI h x w) (hf : lawArm_12 ys L i x w σ = some (w1, σ1)) : LI h x w1 := by
  unfold lawArm_12 at hf
  obtain ⟨hb1, hf⟩ := ck_ex hf
  obtain ⟨hb2, hf⟩ := ck_ex hf
  obtain ⟨hb3, hf⟩ := ck_ex hf
  obtain ⟨hb4, hf⟩ := ck_ex hf
  obtain ⟨hb5, hf⟩ := ck_ex hf
  obtain ⟨r, w2, hA, hf⟩ := bd2_ex hf
  obtain ⟨r2, σ2, hB, hf⟩ := bd2_ex hf
  split at hf
  · cases some_ex hf
    exact hL.ext (mC_X0_feed_x _ _ _ _ _ _ _ _ _ hA)
  · cases hf
set_option maxHeartbeats 4000000 in
theorem lawArm_12_v {X : CX} {b L h x : Nat} {ys : Nat → Int32} {i : Int32} {w w1 : AH} {σ σ1 : SM} (hX : SX X b L ys) (hT : (xl X).stackTraces = false) (hL : LI h x w) (hf : lawArm_12 ys L i x w σ = some (w1, σ1))
    (kk : V X cL_law "FirstPollsLaw" 4 1000 (WB h w1 σ1) 2039 [some (.ref b), some (.ref x), some (.ref h), some (.int i)] []) : V X cL_law "FirstPollsLaw" 4 1000 (WB h w σ) 754 [some (.ref b), some (.ref x), some (.ref h), some (.int i)] [] := by
  unfold lawArm_12 at hf
  obtain ⟨hb1, hf⟩ := ck_ex hf
  obtain ⟨hb2, hf⟩ := ck_ex hf
  obtain ⟨hb3, hf⟩ := ck_ex hf
  obtain ⟨hb4, hf⟩ := ck_ex hf
  obtain ⟨hb5, hf⟩ := ck_ex hf
  obtain ⟨r, w2, hA, hf⟩ := bd2_ex hf
  obtain ⟨r2, σ2, hB, hf⟩ := bd2_ex hf
  split at hf
  · rename_i hq
    subst hq
    cases some_ex hf
    refine V_aload_n dL_law_754 rfl ?_
    refine V_aload_n dL_law_755 rfl ?_
    refine V_iload_n dL_law_756 rfl ?_
    refine V_iconst dL_law_757 ckc_1 ?_
    refine V_iadd dL_law_758 ?_
    refine V_sld hX hb1 rfl dL_law_759 ?_
    refine V_aload_n dL_law_760 rfl ?_
    refine V_iload_n dL_law_761 rfl ?_
    refine V_iconst dL_law_762 ckc_2 ?_
    refine V_iadd dL_law_763 ?_
    refine V_sld hX hb2 rfl dL_law_764 ?_
    refine V_aload_n dL_law_765 rfl ?_
    refine V_iload_n dL_law_766 rfl ?_
    refine V_iconst dL_law_767 ckc_3 ?_
    refine V_iadd dL_law_768 ?_
    refine V_sld hX hb3 rfl dL_law_769 ?_
    refine V_aload_n dL_law_770 rfl ?_
    refine V_iload_n dL_law_771 rfl ?_
    refine V_iconst dL_law_772 ckc_4 ?_
    refine V_iadd dL_law_773 ?_
    refine V_sld hX hb4 rfl dL_law_774 ?_
    refine V_aload_n dL_law_775 rfl ?_
    refine V_iload_n dL_law_776 rfl ?_
    refine V_iconst dL_law_777 ckc_5 ?_
    refine V_iadd dL_law_778 ?_
    refine V_sld hX hb5 rfl dL_law_779 ?_
    refine V_cV (av := [.int (ys (i + (1 : Int32)).toNatClampNeg), .int (ys (i + (2 : Int32)).toNatClampNeg), .int (ys (i + (3 : Int32)).toNatClampNeg), .int (ys (i + (4 : Int32)).toNatClampNeg), .int (ys (i + (5 : Int32)).toNatClampNeg)]) (rest := []) (st' := [.int r]) (callA hL (mC_X0_feed_ok _ _ _ _ _ _ _ _ _ _ _ hA)) lvc_12 (WB_kx hL) (by decide) rfl rfl (Nat.le_of_ble_eq_true rfl) dL_law_780 rfl ?_
    refine V_aload_n dL_law_783 rfl ?_
    refine V_aload_n dL_law_784 rfl ?_
    refine V_iload_n dL_law_785 rfl ?_
    refine V_iconst dL_law_786 ckc_1 ?_
    refine V_iadd dL_law_787 ?_
    refine V_sld hX hb1 rfl dL_law_788 ?_
    refine V_aload_n dL_law_789 rfl ?_
    refine V_iload_n dL_law_790 rfl ?_
    refine V_iconst dL_law_791 ckc_2 ?_
    refine V_iadd dL_law_792 ?_
    refine V_sld hX hb2 rfl dL_law_793 ?_
    refine V_aload_n dL_law_794 rfl ?_
    refine V_iload_n dL_law_795 rfl ?_
    refine V_iconst dL_law_796 ckc_3 ?_
    refine V_iadd dL_law_797 ?_
    refine V_sld hX hb3 rfl dL_law_798 ?_
    refine V_aload_n dL_law_799 rfl ?_
    refine V_iload_n dL_law_800 rfl ?_
    refine V_iconst dL_law_801 ckc_4 ?_
    refine V_iadd dL_law_802 ?_
    refine V_sld hX hb4 rfl dL_law_803 ?_
    refine V_aload_n dL_law_804 rfl ?_
    refine V_iload_n dL_law_805 rfl ?_
    refine V_iconst dL_law_806 ckc_5 ?_
    refine V_iadd dL_law_807 ?_
    refine V_sld hX hb5 rfl dL_law_808 ?_
    refine V_cV (av := [.int (ys (i + (1 : Int32)).toNatClampNeg), .int (ys (i + (2 : Int32)).toNatClampNeg), .int (ys (i + (3 : Int32)).toNatClampNeg), .int (ys (i + (4 : Int32)).toNatClampNeg), .int (ys (i + (5 : Int32)).toNatClampNeg)]) (rest := [.int r]) (st' := [.int r, .int r]) (callB (mM_feed_ok _ _ _ h _ _ _ _ _ _ _ _ hB)) lvm_12 WB_kh (by decide) rfl rfl (Nat.le_of_ble_eq_true rfl) dL_law_809 rfl ?_
    refine V_icmp_eq (tgt := 2039) dL_law_812 (by decide) (fun _ => kk) (fun hq => absurd rfl hq)
  · cases hf
def lawArm_13 (ys : Nat → Int32) (L : Nat) (i : Int32) (x : Nat) (w : AH) (σ : SM) : Option (AH × SM) :=
  ck (bnd (i + (1 : Int32)) L) <|
  bd2 (mC_X0_end x (ys (i + (1 : Int32)).toNatClampNeg) w) fun r w1 =>
  bd2 (mM_end (ys (i + (1 : Int32)).toNatClampNeg) σ) fun r2 σ1 =>
  if r = r2 then some (w1, σ1) else none
theorem lawArm_13_L {h : Nat} {ys : Nat → Int32} {L : Nat} {i : Int32} {x : Nat} {w w1 : AH} {σ σ1 : SM} (hL : LI h x w) (hf : lawArm_13 ys L i x w σ = some (w1, σ1)) : LI h x w1 := by
  unfold lawArm_13 at hf
  obtain ⟨hb1, hf⟩ := ck_ex hf
  obtain ⟨r, w2, hA, hf⟩ := bd2_ex hf
  obtain ⟨r2, σ2, hB, hf⟩ := bd2_ex hf
  split at hf
  · cases some_ex hf
    exact hL.ext (mC_X0_end_x _ _ _ _ _ hA)
  · cases hf
set_option maxHeartbeats 4000000 in
theorem lawArm_13_v {X : CX} {b L h x : Nat} {ys : Nat → Int32} {i : Int32} {w w1 : AH} {σ σ1 : SM} (hX : SX X b L ys) (hT : (xl X).stackTraces = false) (hL : LI h x w) (hf : lawArm_13 ys L i x w σ = some (w1, σ1))
    (kk : V X cL_law "FirstPollsLaw" 4 1000 (WB h w1 σ1) 2039 [some (.ref b), some (.ref x), some (.ref h), some (.int i)] []) : V X cL_law "FirstPollsLaw" 4 1000 (WB h w σ) 817 [some (.ref b), some (.ref x), some (.ref h), some (.int i)] [] := by
  unfold lawArm_13 at hf
  obtain ⟨hb1, hf⟩ := ck_ex hf
  obtain ⟨r, w2, hA, hf⟩ := bd2_ex hf
  obtain ⟨r2, σ2, hB, hf⟩ := bd2_ex hf
  split at hf
  · rename_i hq
    subst hq
    cases some_ex hf
    refine V_aload_n dL_law_817 rfl ?_
    refine V_aload_n dL_law_818 rfl ?_
    refine V_iload_n dL_law_819 rfl ?_
    refine V_iconst dL_law_820 ckc_1 ?_
    refine V_iadd dL_law_821 ?_
    refine V_sld hX hb1 rfl dL_law_822 ?_
    refine V_cV (av := [.int (ys (i + (1 : Int32)).toNatClampNeg)]) (rest := []) (st' := [.int r]) (callA hL (mC_X0_end_ok _ _ _ _ _ _ _ hA)) lvc_13 (WB_kx hL) (by decide) rfl rfl (Nat.le_of_ble_eq_true rfl) dL_law_823 rfl ?_
    refine V_aload_n dL_law_826 rfl ?_
    refine V_aload_n dL_law_827 rfl ?_
    refine V_iload_n dL_law_828 rfl ?_
    refine V_iconst dL_law_829 ckc_1 ?_
    refine V_iadd dL_law_830 ?_
    refine V_sld hX hb1 rfl dL_law_831 ?_
    refine V_cV (av := [.int (ys (i + (1 : Int32)).toNatClampNeg)]) (rest := [.int r]) (st' := [.int r, .int r]) (callB (mM_end_ok _ _ _ h _ _ _ _ hB)) lvm_13 WB_kh (by decide) rfl rfl (Nat.le_of_ble_eq_true rfl) dL_law_832 rfl ?_
    refine V_icmp_eq (tgt := 2039) dL_law_835 (by decide) (fun _ => kk) (fun hq => absurd rfl hq)
  · cases hf
def lawArm_14 (ys : Nat → Int32) (L : Nat) (i : Int32) (x : Nat) (w : AH) (σ : SM) : Option (AH × SM) :=
  ck (bnd (i + (1 : Int32)) L) <|
  bd2 (mC_X0_order x (ys (i + (1 : Int32)).toNatClampNeg) w) fun r w1 =>
  bd2 (mM_order (ys (i + (1 : Int32)).toNatClampNeg) σ) fun r2 σ1 =>
  if r = r2 then some (w1, σ1) else none
theorem lawArm_14_L {h : Nat} {ys : Nat → Int32} {L : Nat} {i : Int32} {x : Nat} {w w1 : AH} {σ σ1 : SM} (hL : LI h x w) (hf : lawArm_14 ys L i x w σ = some (w1, σ1)) : LI h x w1 := by
  unfold lawArm_14 at hf
  obtain ⟨hb1, hf⟩ := ck_ex hf
  obtain ⟨r, w2, hA, hf⟩ := bd2_ex hf
  obtain ⟨r2, σ2, hB, hf⟩ := bd2_ex hf
  split at hf
  · cases some_ex hf
    exact hL.ext (mC_X0_order_x _ _ _ _ _ hA)
  · cases hf
set_option maxHeartbeats 4000000 in
theorem lawArm_14_v {X : CX} {b L h x : Nat} {ys : Nat → Int32} {i : Int32} {w w1 : AH} {σ σ1 : SM} (hX : SX X b L ys) (hT : (xl X).stackTraces = false) (hL : LI h x w) (hf : lawArm_14 ys L i x w σ = some (w1, σ1))
    (kk : V X cL_law "FirstPollsLaw" 4 1000 (WB h w1 σ1) 2039 [some (.ref b), some (.ref x), some (.ref h), some (.int i)] []) : V X cL_law "FirstPollsLaw" 4 1000 (WB h w σ) 840 [some (.ref b), some (.ref x), some (.ref h), some (.int i)] [] := by
  unfold lawArm_14 at hf
  obtain ⟨hb1, hf⟩ := ck_ex hf
  obtain ⟨r, w2, hA, hf⟩ := bd2_ex hf
  obtain ⟨r2, σ2, hB, hf⟩ := bd2_ex hf
  split at hf
  · rename_i hq
    subst hq
    cases some_ex hf
    refine V_aload_n dL_law_840 rfl ?_
    refine V_aload_n dL_law_841 rfl ?_
    refine V_iload_n dL_law_842 rfl ?_
    refine V_iconst dL_law_843 ckc_1 ?_
    refine V_iadd dL_law_844 ?_
    refine V_sld hX hb1 rfl dL_law_845 ?_
    refine V_xW (av := [.int (ys (i + (1 : Int32)).toNatClampNeg)]) (rest := []) (callAW hL (mC_X0_order_ok _ _ _ _ _ _ _ hA)) lvx_14 q1034 q132 (by decide) (WB_kx hL) (by decide) rfl rfl (Nat.le_of_ble_eq_true rfl) dL_law_846 ?_
    refine VO_r (v := some (.int r)) (st' := [.int r]) rfl ?_
    refine V_aload_n dL_law_849 rfl ?_
    refine V_aload_n dL_law_850 rfl ?_
    refine V_iload_n dL_law_851 rfl ?_
    refine V_iconst dL_law_852 ckc_1 ?_
    refine V_iadd dL_law_853 ?_
    refine V_sld hX hb1 rfl dL_law_854 ?_
    refine V_cV (av := [.int (ys (i + (1 : Int32)).toNatClampNeg)]) (rest := [.int r]) (st' := [.int r, .int r]) (callB (mM_order_ok _ _ _ h _ _ _ _ hB)) lvm_14 WB_kh (by decide) rfl rfl (Nat.le_of_ble_eq_true rfl) dL_law_855 rfl ?_
    refine V_icmp_eq (tgt := 2039) dL_law_858 (by decide) (fun _ => kk) (fun hq => absurd rfl hq)
  · cases hf
def lawArm_15 (ys : Nat → Int32) (L : Nat) (i : Int32) (x : Nat) (w : AH) (σ : SM) : Option (AH × SM) :=
  bd1 (mC_X0_fault x w) fun r =>
  bd2 (mM_fault σ) fun r2 σ1 =>
  if r = r2 then some (w, σ1) else none
theorem lawArm_15_L {h : Nat} {ys : Nat → Int32} {L : Nat} {i : Int32} {x : Nat} {w w1 : AH} {σ σ1 : SM} (hL : LI h x w) (hf : lawArm_15 ys L i x w σ = some (w1, σ1)) : LI h x w1 := by
  unfold lawArm_15 at hf
  obtain ⟨r, hA, hf⟩ := bd1_ex hf
  obtain ⟨r2, σ2, hB, hf⟩ := bd2_ex hf
  split at hf
  · cases some_ex hf
    exact hL
  · cases hf
set_option maxHeartbeats 4000000 in
theorem lawArm_15_v {X : CX} {b L h x : Nat} {ys : Nat → Int32} {i : Int32} {w w1 : AH} {σ σ1 : SM} (hX : SX X b L ys) (hT : (xl X).stackTraces = false) (hL : LI h x w) (hf : lawArm_15 ys L i x w σ = some (w1, σ1))
    (kk : V X cL_law "FirstPollsLaw" 4 1000 (WB h w1 σ1) 2039 [some (.ref b), some (.ref x), some (.ref h), some (.int i)] []) : V X cL_law "FirstPollsLaw" 4 1000 (WB h w σ) 863 [some (.ref b), some (.ref x), some (.ref h), some (.int i)] [] := by
  unfold lawArm_15 at hf
  obtain ⟨r, hA, hf⟩ := bd1_ex hf
  obtain ⟨r2, σ2, hB, hf⟩ := bd2_ex hf
  split at hf
  · rename_i hq
    subst hq
    cases some_ex hf
    refine V_aload_n dL_law_863 rfl ?_
    refine V_cV (av := []) (rest := []) (st' := [.int r]) (callA hL (mC_X0_fault_ok _ _ _ _ _ hA)) lvc_15 (WB_kx hL) (by decide) rfl rfl (Nat.le_of_ble_eq_true rfl) dL_law_864 rfl ?_
    refine V_aload_n dL_law_867 rfl ?_
    refine V_cV (av := []) (rest := [.int r]) (st' := [.int r, .int r]) (callB (mM_fault_ok _ _ _ h _ _ _ hB)) lvm_15 WB_kh (by decide) rfl rfl (Nat.le_of_ble_eq_true rfl) dL_law_868 rfl ?_
    refine V_icmp_eq (tgt := 2039) dL_law_871 (by decide) (fun _ => kk) (fun hq => absurd rfl hq)
  · cases hf
def lawArm_16 (ys : Nat → Int32) (L : Nat) (i : Int32) (x : Nat) (w : AH) (σ : SM) : Option (AH × SM) :=
  ck (bnd (i + (1 : Int32)) L) <|
  ck (bnd (i + (2 : Int32)) L) <|
  ck (bnd (i + (3 : Int32)) L) <|
  bd2 (mC_X0_force x (ys (i + (1 : Int32)).toNatClampNeg) (ys (i + (2 : Int32)).toNatClampNeg) (ys (i + (3 : Int32)).toNatClampNeg) w) fun r w1 =>
  bd2 (mM_force (ys (i + (1 : Int32)).toNatClampNeg) (ys (i + (2 : Int32)).toNatClampNeg) (ys (i + (3 : Int32)).toNatClampNeg) σ) fun r2 σ1 =>
  if r = r2 then some (w1, σ1) else none
theorem lawArm_16_L {h : Nat} {ys : Nat → Int32} {L : Nat} {i : Int32} {x : Nat} {w w1 : AH} {σ σ1 : SM} (hL : LI h x w) (hf : lawArm_16 ys L i x w σ = some (w1, σ1)) : LI h x w1 := by
  unfold lawArm_16 at hf
  obtain ⟨hb1, hf⟩ := ck_ex hf
  obtain ⟨hb2, hf⟩ := ck_ex hf
  obtain ⟨hb3, hf⟩ := ck_ex hf
  obtain ⟨r, w2, hA, hf⟩ := bd2_ex hf
  obtain ⟨r2, σ2, hB, hf⟩ := bd2_ex hf
  split at hf
  · cases some_ex hf
    exact hL.ext (mC_X0_force_x _ _ _ _ _ _ _ hA)
  · cases hf
set_option maxHeartbeats 4000000 in
theorem lawArm_16_v {X : CX} {b L h x : Nat} {ys : Nat → Int32} {i : Int32} {w w1 : AH} {σ σ1 : SM} (hX : SX X b L ys) (hT : (xl X).stackTraces = false) (hL : LI h x w) (hf : lawArm_16 ys L i x w σ = some (w1, σ1))
    (kk : V X cL_law "FirstPollsLaw" 4 1000 (WB h w1 σ1) 2039 [some (.ref b), some (.ref x), some (.ref h), some (.int i)] []) : V X cL_law "FirstPollsLaw" 4 1000 (WB h w σ) 876 [some (.ref b), some (.ref x), some (.ref h), some (.int i)] [] := by
  unfold lawArm_16 at hf
  obtain ⟨hb1, hf⟩ := ck_ex hf
  obtain ⟨hb2, hf⟩ := ck_ex hf
  obtain ⟨hb3, hf⟩ := ck_ex hf
  obtain ⟨r, w2, hA, hf⟩ := bd2_ex hf
  obtain ⟨r2, σ2, hB, hf⟩ := bd2_ex hf
  split at hf
  · rename_i hq
    subst hq
    cases some_ex hf
    refine V_aload_n dL_law_876 rfl ?_
    refine V_aload_n dL_law_877 rfl ?_
    refine V_iload_n dL_law_878 rfl ?_
    refine V_iconst dL_law_879 ckc_1 ?_
    refine V_iadd dL_law_880 ?_
    refine V_sld hX hb1 rfl dL_law_881 ?_
    refine V_aload_n dL_law_882 rfl ?_
    refine V_iload_n dL_law_883 rfl ?_
    refine V_iconst dL_law_884 ckc_2 ?_
    refine V_iadd dL_law_885 ?_
    refine V_sld hX hb2 rfl dL_law_886 ?_
    refine V_aload_n dL_law_887 rfl ?_
    refine V_iload_n dL_law_888 rfl ?_
    refine V_iconst dL_law_889 ckc_3 ?_
    refine V_iadd dL_law_890 ?_
    refine V_sld hX hb3 rfl dL_law_891 ?_
    refine V_cV (av := [.int (ys (i + (1 : Int32)).toNatClampNeg), .int (ys (i + (2 : Int32)).toNatClampNeg), .int (ys (i + (3 : Int32)).toNatClampNeg)]) (rest := []) (st' := [.int r]) (callA hL (mC_X0_force_ok _ _ _ _ _ _ _ _ _ hA)) lvc_16 (WB_kx hL) (by decide) rfl rfl (Nat.le_of_ble_eq_true rfl) dL_law_892 rfl ?_
    refine V_aload_n dL_law_895 rfl ?_
    refine V_aload_n dL_law_896 rfl ?_
    refine V_iload_n dL_law_897 rfl ?_
    refine V_iconst dL_law_898 ckc_1 ?_
    refine V_iadd dL_law_899 ?_
    refine V_sld hX hb1 rfl dL_law_900 ?_
    refine V_aload_n dL_law_901 rfl ?_
    refine V_iload_n dL_law_902 rfl ?_
    refine V_iconst dL_law_903 ckc_2 ?_
    refine V_iadd dL_law_904 ?_
    refine V_sld hX hb2 rfl dL_law_905 ?_
    refine V_aload_n dL_law_906 rfl ?_
    refine V_iload_n dL_law_907 rfl ?_
    refine V_iconst dL_law_908 ckc_3 ?_
    refine V_iadd dL_law_909 ?_
    refine V_sld hX hb3 rfl dL_law_910 ?_
    refine V_cV (av := [.int (ys (i + (1 : Int32)).toNatClampNeg), .int (ys (i + (2 : Int32)).toNatClampNeg), .int (ys (i + (3 : Int32)).toNatClampNeg)]) (rest := [.int r]) (st' := [.int r, .int r]) (callB (mM_force_ok _ _ _ h _ _ _ _ _ _ hB)) lvm_16 WB_kh (by decide) rfl rfl (Nat.le_of_ble_eq_true rfl) dL_law_911 rfl ?_
    refine V_icmp_eq (tgt := 2039) dL_law_914 (by decide) (fun _ => kk) (fun hq => absurd rfl hq)
  · cases hf
def lawArm_17 (ys : Nat → Int32) (L : Nat) (i : Int32) (x : Nat) (w : AH) (σ : SM) : Option (AH × SM) :=
  ck (bnd (i + (1 : Int32)) L) <|
  ck (bnd (i + (2 : Int32)) L) <|
  ck (bnd (i + (3 : Int32)) L) <|
  ck (bnd (i + (4 : Int32)) L) <|
  bd2 (mC_X0_rule x (ys (i + (1 : Int32)).toNatClampNeg) (ys (i + (2 : Int32)).toNatClampNeg) (ys (i + (3 : Int32)).toNatClampNeg) (ys (i + (4 : Int32)).toNatClampNeg) w) fun r w1 =>
  bd2 (mM_rule (ys (i + (1 : Int32)).toNatClampNeg) (ys (i + (2 : Int32)).toNatClampNeg) (ys (i + (3 : Int32)).toNatClampNeg) (ys (i + (4 : Int32)).toNatClampNeg) σ) fun r2 σ1 =>
  if r = r2 then some (w1, σ1) else none
theorem lawArm_17_L {h : Nat} {ys : Nat → Int32} {L : Nat} {i : Int32} {x : Nat} {w w1 : AH} {σ σ1 : SM} (hL : LI h x w) (hf : lawArm_17 ys L i x w σ = some (w1, σ1)) : LI h x w1 := by
  unfold lawArm_17 at hf
  obtain ⟨hb1, hf⟩ := ck_ex hf
  obtain ⟨hb2, hf⟩ := ck_ex hf
  obtain ⟨hb3, hf⟩ := ck_ex hf
  obtain ⟨hb4, hf⟩ := ck_ex hf
  obtain ⟨r, w2, hA, hf⟩ := bd2_ex hf
  obtain ⟨r2, σ2, hB, hf⟩ := bd2_ex hf
  split at hf
  · cases some_ex hf
    exact hL.ext (mC_X0_rule_x _ _ _ _ _ _ _ _ hA)
  · cases hf
set_option maxHeartbeats 4000000 in
theorem lawArm_17_v {X : CX} {b L h x : Nat} {ys : Nat → Int32} {i : Int32} {w w1 : AH} {σ σ1 : SM} (hX : SX X b L ys) (hT : (xl X).stackTraces = false) (hL : LI h x w) (hf : lawArm_17 ys L i x w σ = some (w1, σ1))
    (kk : V X cL_law "FirstPollsLaw" 4 1000 (WB h w1 σ1) 2039 [some (.ref b), some (.ref x), some (.ref h), some (.int i)] []) : V X cL_law "FirstPollsLaw" 4 1000 (WB h w σ) 919 [some (.ref b), some (.ref x), some (.ref h), some (.int i)] [] := by
  unfold lawArm_17 at hf
  obtain ⟨hb1, hf⟩ := ck_ex hf
  obtain ⟨hb2, hf⟩ := ck_ex hf
  obtain ⟨hb3, hf⟩ := ck_ex hf
  obtain ⟨hb4, hf⟩ := ck_ex hf
  obtain ⟨r, w2, hA, hf⟩ := bd2_ex hf
  obtain ⟨r2, σ2, hB, hf⟩ := bd2_ex hf
  split at hf
  · rename_i hq
    subst hq
    cases some_ex hf
    refine V_aload_n dL_law_919 rfl ?_
    refine V_aload_n dL_law_920 rfl ?_
    refine V_iload_n dL_law_921 rfl ?_
    refine V_iconst dL_law_922 ckc_1 ?_
    refine V_iadd dL_law_923 ?_
    refine V_sld hX hb1 rfl dL_law_924 ?_
    refine V_aload_n dL_law_925 rfl ?_
    refine V_iload_n dL_law_926 rfl ?_
    refine V_iconst dL_law_927 ckc_2 ?_
    refine V_iadd dL_law_928 ?_
    refine V_sld hX hb2 rfl dL_law_929 ?_
    refine V_aload_n dL_law_930 rfl ?_
    refine V_iload_n dL_law_931 rfl ?_
    refine V_iconst dL_law_932 ckc_3 ?_
    refine V_iadd dL_law_933 ?_
    refine V_sld hX hb3 rfl dL_law_934 ?_
    refine V_aload_n dL_law_935 rfl ?_
    refine V_iload_n dL_law_936 rfl ?_
    refine V_iconst dL_law_937 ckc_4 ?_
    refine V_iadd dL_law_938 ?_
    refine V_sld hX hb4 rfl dL_law_939 ?_
    refine V_cV (av := [.int (ys (i + (1 : Int32)).toNatClampNeg), .int (ys (i + (2 : Int32)).toNatClampNeg), .int (ys (i + (3 : Int32)).toNatClampNeg), .int (ys (i + (4 : Int32)).toNatClampNeg)]) (rest := []) (st' := [.int r]) (callA hL (mC_X0_rule_ok _ _ _ _ _ _ _ _ _ _ hA)) lvc_17 (WB_kx hL) (by decide) rfl rfl (Nat.le_of_ble_eq_true rfl) dL_law_940 rfl ?_
    refine V_aload_n dL_law_943 rfl ?_
    refine V_aload_n dL_law_944 rfl ?_
    refine V_iload_n dL_law_945 rfl ?_
    refine V_iconst dL_law_946 ckc_1 ?_
    refine V_iadd dL_law_947 ?_
    refine V_sld hX hb1 rfl dL_law_948 ?_
    refine V_aload_n dL_law_949 rfl ?_
    refine V_iload_n dL_law_950 rfl ?_
    refine V_iconst dL_law_951 ckc_2 ?_
    refine V_iadd dL_law_952 ?_
    refine V_sld hX hb2 rfl dL_law_953 ?_
    refine V_aload_n dL_law_954 rfl ?_
    refine V_iload_n dL_law_955 rfl ?_
    refine V_iconst dL_law_956 ckc_3 ?_
    refine V_iadd dL_law_957 ?_
    refine V_sld hX hb3 rfl dL_law_958 ?_
    refine V_aload_n dL_law_959 rfl ?_
    refine V_iload_n dL_law_960 rfl ?_
    refine V_iconst dL_law_961 ckc_4 ?_
    refine V_iadd dL_law_962 ?_
    refine V_sld hX hb4 rfl dL_law_963 ?_
    refine V_cV (av := [.int (ys (i + (1 : Int32)).toNatClampNeg), .int (ys (i + (2 : Int32)).toNatClampNeg), .int (ys (i + (3 : Int32)).toNatClampNeg), .int (ys (i + (4 : Int32)).toNatClampNeg)]) (rest := [.int r]) (st' := [.int r, .int r]) (callB (mM_rule_ok _ _ _ h _ _ _ _ _ _ _ hB)) lvm_17 WB_kh (by decide) rfl rfl (Nat.le_of_ble_eq_true rfl) dL_law_964 rfl ?_
    refine V_icmp_eq (tgt := 2039) dL_law_967 (by decide) (fun _ => kk) (fun hq => absurd rfl hq)
  · cases hf
def lawArm_18 (ys : Nat → Int32) (L : Nat) (i : Int32) (x : Nat) (w : AH) (σ : SM) : Option (AH × SM) :=
  ck (bnd (i + (1 : Int32)) L) <|
  bd2 (mC_X0_wish x (ys (i + (1 : Int32)).toNatClampNeg) w) fun r w1 =>
  bd2 (mM_wish (ys (i + (1 : Int32)).toNatClampNeg) σ) fun r2 σ1 =>
  if r = r2 then some (w1, σ1) else none
theorem lawArm_18_L {h : Nat} {ys : Nat → Int32} {L : Nat} {i : Int32} {x : Nat} {w w1 : AH} {σ σ1 : SM} (hL : LI h x w) (hf : lawArm_18 ys L i x w σ = some (w1, σ1)) : LI h x w1 := by
  unfold lawArm_18 at hf
  obtain ⟨hb1, hf⟩ := ck_ex hf
  obtain ⟨r, w2, hA, hf⟩ := bd2_ex hf
  obtain ⟨r2, σ2, hB, hf⟩ := bd2_ex hf
  split at hf
  · cases some_ex hf
    exact hL.ext (mC_X0_wish_x _ _ _ _ _ hA)
  · cases hf
set_option maxHeartbeats 4000000 in
theorem lawArm_18_v {X : CX} {b L h x : Nat} {ys : Nat → Int32} {i : Int32} {w w1 : AH} {σ σ1 : SM} (hX : SX X b L ys) (hT : (xl X).stackTraces = false) (hL : LI h x w) (hf : lawArm_18 ys L i x w σ = some (w1, σ1))
    (kk : V X cL_law "FirstPollsLaw" 4 1000 (WB h w1 σ1) 2039 [some (.ref b), some (.ref x), some (.ref h), some (.int i)] []) : V X cL_law "FirstPollsLaw" 4 1000 (WB h w σ) 972 [some (.ref b), some (.ref x), some (.ref h), some (.int i)] [] := by
  unfold lawArm_18 at hf
  obtain ⟨hb1, hf⟩ := ck_ex hf
  obtain ⟨r, w2, hA, hf⟩ := bd2_ex hf
  obtain ⟨r2, σ2, hB, hf⟩ := bd2_ex hf
  split at hf
  · rename_i hq
    subst hq
    cases some_ex hf
    refine V_aload_n dL_law_972 rfl ?_
    refine V_aload_n dL_law_973 rfl ?_
    refine V_iload_n dL_law_974 rfl ?_
    refine V_iconst dL_law_975 ckc_1 ?_
    refine V_iadd dL_law_976 ?_
    refine V_sld hX hb1 rfl dL_law_977 ?_
    refine V_cV (av := [.int (ys (i + (1 : Int32)).toNatClampNeg)]) (rest := []) (st' := [.int r]) (callA hL (mC_X0_wish_ok _ _ _ _ _ _ _ hA)) lvc_18 (WB_kx hL) (by decide) rfl rfl (Nat.le_of_ble_eq_true rfl) dL_law_978 rfl ?_
    refine V_aload_n dL_law_981 rfl ?_
    refine V_aload_n dL_law_982 rfl ?_
    refine V_iload_n dL_law_983 rfl ?_
    refine V_iconst dL_law_984 ckc_1 ?_
    refine V_iadd dL_law_985 ?_
    refine V_sld hX hb1 rfl dL_law_986 ?_
    refine V_cV (av := [.int (ys (i + (1 : Int32)).toNatClampNeg)]) (rest := [.int r]) (st' := [.int r, .int r]) (callB (mM_wish_ok _ _ _ h _ _ _ _ hB)) lvm_18 WB_kh (by decide) rfl rfl (Nat.le_of_ble_eq_true rfl) dL_law_987 rfl ?_
    refine V_icmp_eq (tgt := 2039) dL_law_990 (by decide) (fun _ => kk) (fun hq => absurd rfl hq)
  · cases hf
def lawArm_19 (ys : Nat → Int32) (L : Nat) (i : Int32) (x : Nat) (w : AH) (σ : SM) : Option (AH × SM) :=
  bd2 (mC_X0_clear x w) fun r w1 =>
  bd2 (mM_clear σ) fun r2 σ1 =>
  if r = r2 then some (w1, σ1) else none
theorem lawArm_19_L {h : Nat} {ys : Nat → Int32} {L : Nat} {i : Int32} {x : Nat} {w w1 : AH} {σ σ1 : SM} (hL : LI h x w) (hf : lawArm_19 ys L i x w σ = some (w1, σ1)) : LI h x w1 := by
  unfold lawArm_19 at hf
  obtain ⟨r, w2, hA, hf⟩ := bd2_ex hf
  obtain ⟨r2, σ2, hB, hf⟩ := bd2_ex hf
  split at hf
  · cases some_ex hf
    exact hL.ext (mC_X0_clear_x _ _ _ _ hA)
  · cases hf
set_option maxHeartbeats 4000000 in
theorem lawArm_19_v {X : CX} {b L h x : Nat} {ys : Nat → Int32} {i : Int32} {w w1 : AH} {σ σ1 : SM} (hX : SX X b L ys) (hT : (xl X).stackTraces = false) (hL : LI h x w) (hf : lawArm_19 ys L i x w σ = some (w1, σ1))
    (kk : V X cL_law "FirstPollsLaw" 4 1000 (WB h w1 σ1) 2039 [some (.ref b), some (.ref x), some (.ref h), some (.int i)] []) : V X cL_law "FirstPollsLaw" 4 1000 (WB h w σ) 995 [some (.ref b), some (.ref x), some (.ref h), some (.int i)] [] := by
  unfold lawArm_19 at hf
  obtain ⟨r, w2, hA, hf⟩ := bd2_ex hf
  obtain ⟨r2, σ2, hB, hf⟩ := bd2_ex hf
  split at hf
  · rename_i hq
    subst hq
    cases some_ex hf
    refine V_aload_n dL_law_995 rfl ?_
    refine V_cV (av := []) (rest := []) (st' := [.int r]) (callA hL (mC_X0_clear_ok _ _ _ _ _ _ hA)) lvc_19 (WB_kx hL) (by decide) rfl rfl (Nat.le_of_ble_eq_true rfl) dL_law_996 rfl ?_
    refine V_aload_n dL_law_999 rfl ?_
    refine V_cV (av := []) (rest := [.int r]) (st' := [.int r, .int r]) (callB (mM_clear_ok _ _ _ h _ _ _ hB)) lvm_19 WB_kh (by decide) rfl rfl (Nat.le_of_ble_eq_true rfl) dL_law_1000 rfl ?_
    refine V_icmp_eq (tgt := 2039) dL_law_1003 (by decide) (fun _ => kk) (fun hq => absurd rfl hq)
  · cases hf
def lawArm_20 (ys : Nat → Int32) (L : Nat) (i : Int32) (x : Nat) (w : AH) (σ : SM) : Option (AH × SM) :=
  ck (bnd (i + (1 : Int32)) L) <|
  ck (bnd (i + (2 : Int32)) L) <|
  bd2 (mC_X0_booths x (ys (i + (1 : Int32)).toNatClampNeg) (ys (i + (2 : Int32)).toNatClampNeg) w) fun r w1 =>
  bd2 (mM_booths (ys (i + (1 : Int32)).toNatClampNeg) (ys (i + (2 : Int32)).toNatClampNeg) σ) fun r2 σ1 =>
  if r = r2 then some (w1, σ1) else none
theorem lawArm_20_L {h : Nat} {ys : Nat → Int32} {L : Nat} {i : Int32} {x : Nat} {w w1 : AH} {σ σ1 : SM} (hL : LI h x w) (hf : lawArm_20 ys L i x w σ = some (w1, σ1)) : LI h x w1 := by
  unfold lawArm_20 at hf
  obtain ⟨hb1, hf⟩ := ck_ex hf
  obtain ⟨hb2, hf⟩ := ck_ex hf
  obtain ⟨r, w2, hA, hf⟩ := bd2_ex hf
  obtain ⟨r2, σ2, hB, hf⟩ := bd2_ex hf
  split at hf
  · cases some_ex hf
    exact hL.ext (mC_X0_booths_x _ _ _ _ _ _ hA)
  · cases hf
set_option maxHeartbeats 4000000 in
theorem lawArm_20_v {X : CX} {b L h x : Nat} {ys : Nat → Int32} {i : Int32} {w w1 : AH} {σ σ1 : SM} (hX : SX X b L ys) (hT : (xl X).stackTraces = false) (hL : LI h x w) (hf : lawArm_20 ys L i x w σ = some (w1, σ1))
    (kk : V X cL_law "FirstPollsLaw" 4 1000 (WB h w1 σ1) 2039 [some (.ref b), some (.ref x), some (.ref h), some (.int i)] []) : V X cL_law "FirstPollsLaw" 4 1000 (WB h w σ) 1008 [some (.ref b), some (.ref x), some (.ref h), some (.int i)] [] := by
  unfold lawArm_20 at hf
  obtain ⟨hb1, hf⟩ := ck_ex hf
  obtain ⟨hb2, hf⟩ := ck_ex hf
  obtain ⟨r, w2, hA, hf⟩ := bd2_ex hf
  obtain ⟨r2, σ2, hB, hf⟩ := bd2_ex hf
  split at hf
  · rename_i hq
    subst hq
    cases some_ex hf
    refine V_aload_n dL_law_1008 rfl ?_
    refine V_aload_n dL_law_1009 rfl ?_
    refine V_iload_n dL_law_1010 rfl ?_
    refine V_iconst dL_law_1011 ckc_1 ?_
    refine V_iadd dL_law_1012 ?_
    refine V_sld hX hb1 rfl dL_law_1013 ?_
    refine V_aload_n dL_law_1014 rfl ?_
    refine V_iload_n dL_law_1015 rfl ?_
    refine V_iconst dL_law_1016 ckc_2 ?_
    refine V_iadd dL_law_1017 ?_
    refine V_sld hX hb2 rfl dL_law_1018 ?_
    refine V_cV (av := [.int (ys (i + (1 : Int32)).toNatClampNeg), .int (ys (i + (2 : Int32)).toNatClampNeg)]) (rest := []) (st' := [.int r]) (callA hL (mC_X0_booths_ok _ _ _ _ _ _ _ _ hA)) lvc_20 (WB_kx hL) (by decide) rfl rfl (Nat.le_of_ble_eq_true rfl) dL_law_1019 rfl ?_
    refine V_aload_n dL_law_1022 rfl ?_
    refine V_aload_n dL_law_1023 rfl ?_
    refine V_iload_n dL_law_1024 rfl ?_
    refine V_iconst dL_law_1025 ckc_1 ?_
    refine V_iadd dL_law_1026 ?_
    refine V_sld hX hb1 rfl dL_law_1027 ?_
    refine V_aload_n dL_law_1028 rfl ?_
    refine V_iload_n dL_law_1029 rfl ?_
    refine V_iconst dL_law_1030 ckc_2 ?_
    refine V_iadd dL_law_1031 ?_
    refine V_sld hX hb2 rfl dL_law_1032 ?_
    refine V_cV (av := [.int (ys (i + (1 : Int32)).toNatClampNeg), .int (ys (i + (2 : Int32)).toNatClampNeg)]) (rest := [.int r]) (st' := [.int r, .int r]) (callB (mM_booths_ok _ _ _ h _ _ _ _ _ hB)) lvm_20 WB_kh (by decide) rfl rfl (Nat.le_of_ble_eq_true rfl) dL_law_1033 rfl ?_
    refine V_icmp_eq (tgt := 2039) dL_law_1036 (by decide) (fun _ => kk) (fun hq => absurd rfl hq)
  · cases hf
def lawArm_21 (ys : Nat → Int32) (L : Nat) (i : Int32) (x : Nat) (w : AH) (σ : SM) : Option (AH × SM) :=
  ck (bnd (i + (1 : Int32)) L) <|
  bd1 (mC_X0_led x (ys (i + (1 : Int32)).toNatClampNeg) w) fun r =>
  bd2 (mM_led (ys (i + (1 : Int32)).toNatClampNeg) σ) fun r2 σ1 =>
  if r = r2 then some (w, σ1) else none
theorem lawArm_21_L {h : Nat} {ys : Nat → Int32} {L : Nat} {i : Int32} {x : Nat} {w w1 : AH} {σ σ1 : SM} (hL : LI h x w) (hf : lawArm_21 ys L i x w σ = some (w1, σ1)) : LI h x w1 := by
  unfold lawArm_21 at hf
  obtain ⟨hb1, hf⟩ := ck_ex hf
  obtain ⟨r, hA, hf⟩ := bd1_ex hf
  obtain ⟨r2, σ2, hB, hf⟩ := bd2_ex hf
  split at hf
  · cases some_ex hf
    exact hL
  · cases hf
set_option maxHeartbeats 4000000 in
theorem lawArm_21_v {X : CX} {b L h x : Nat} {ys : Nat → Int32} {i : Int32} {w w1 : AH} {σ σ1 : SM} (hX : SX X b L ys) (hT : (xl X).stackTraces = false) (hL : LI h x w) (hf : lawArm_21 ys L i x w σ = some (w1, σ1))
    (kk : V X cL_law "FirstPollsLaw" 4 1000 (WB h w1 σ1) 2039 [some (.ref b), some (.ref x), some (.ref h), some (.int i)] []) : V X cL_law "FirstPollsLaw" 4 1000 (WB h w σ) 1041 [some (.ref b), some (.ref x), some (.ref h), some (.int i)] [] := by
  unfold lawArm_21 at hf
  obtain ⟨hb1, hf⟩ := ck_ex hf
  obtain ⟨r, hA, hf⟩ := bd1_ex hf
  obtain ⟨r2, σ2, hB, hf⟩ := bd2_ex hf
  split at hf
  · rename_i hq
    subst hq
    cases some_ex hf
    refine V_aload_n dL_law_1041 rfl ?_
    refine V_aload_n dL_law_1042 rfl ?_
    refine V_iload_n dL_law_1043 rfl ?_
    refine V_iconst dL_law_1044 ckc_1 ?_
    refine V_iadd dL_law_1045 ?_
    refine V_sld hX hb1 rfl dL_law_1046 ?_
    refine V_cV (av := [.int (ys (i + (1 : Int32)).toNatClampNeg)]) (rest := []) (st' := [.int r]) (callA hL (mC_X0_led_ok _ _ _ _ _ _ hA)) lvc_21 (WB_kx hL) (by decide) rfl rfl (Nat.le_of_ble_eq_true rfl) dL_law_1047 rfl ?_
    refine V_aload_n dL_law_1050 rfl ?_
    refine V_aload_n dL_law_1051 rfl ?_
    refine V_iload_n dL_law_1052 rfl ?_
    refine V_iconst dL_law_1053 ckc_1 ?_
    refine V_iadd dL_law_1054 ?_
    refine V_sld hX hb1 rfl dL_law_1055 ?_
    refine V_cV (av := [.int (ys (i + (1 : Int32)).toNatClampNeg)]) (rest := [.int r]) (st' := [.int r, .int r]) (callB (mM_led_ok _ _ _ h _ _ _ _ hB)) lvm_21 WB_kh (by decide) rfl rfl (Nat.le_of_ble_eq_true rfl) dL_law_1056 rfl ?_
    refine V_icmp_eq (tgt := 2039) dL_law_1059 (by decide) (fun _ => kk) (fun hq => absurd rfl hq)
  · cases hf
def lawArm_22 (ys : Nat → Int32) (L : Nat) (i : Int32) (x : Nat) (w : AH) (σ : SM) : Option (AH × SM) :=
  ck (bnd (i + (1 : Int32)) L) <|
  ck (bnd (i + (2 : Int32)) L) <|
  ck (bnd (i + (3 : Int32)) L) <|
  bd2 (mC_X0_judge x (ys (i + (1 : Int32)).toNatClampNeg) (ys (i + (2 : Int32)).toNatClampNeg) (ys (i + (3 : Int32)).toNatClampNeg) w) fun r w1 =>
  bd2 (mM_judge (ys (i + (1 : Int32)).toNatClampNeg) (ys (i + (2 : Int32)).toNatClampNeg) (ys (i + (3 : Int32)).toNatClampNeg) σ) fun r2 σ1 =>
  if r = r2 then some (w1, σ1) else none
theorem lawArm_22_L {h : Nat} {ys : Nat → Int32} {L : Nat} {i : Int32} {x : Nat} {w w1 : AH} {σ σ1 : SM} (hL : LI h x w) (hf : lawArm_22 ys L i x w σ = some (w1, σ1)) : LI h x w1 := by
  unfold lawArm_22 at hf
  obtain ⟨hb1, hf⟩ := ck_ex hf
  obtain ⟨hb2, hf⟩ := ck_ex hf
  obtain ⟨hb3, hf⟩ := ck_ex hf
  obtain ⟨r, w2, hA, hf⟩ := bd2_ex hf
  obtain ⟨r2, σ2, hB, hf⟩ := bd2_ex hf
  split at hf
  · cases some_ex hf
    exact hL.ext (mC_X0_judge_x _ _ _ _ _ _ _ hA)
  · cases hf
set_option maxHeartbeats 4000000 in
theorem lawArm_22_v {X : CX} {b L h x : Nat} {ys : Nat → Int32} {i : Int32} {w w1 : AH} {σ σ1 : SM} (hX : SX X b L ys) (hT : (xl X).stackTraces = false) (hL : LI h x w) (hf : lawArm_22 ys L i x w σ = some (w1, σ1))
    (kk : V X cL_law "FirstPollsLaw" 4 1000 (WB h w1 σ1) 2039 [some (.ref b), some (.ref x), some (.ref h), some (.int i)] []) : V X cL_law "FirstPollsLaw" 4 1000 (WB h w σ) 1064 [some (.ref b), some (.ref x), some (.ref h), some (.int i)] [] := by
  unfold lawArm_22 at hf
  obtain ⟨hb1, hf⟩ := ck_ex hf
  obtain ⟨hb2, hf⟩ := ck_ex hf
  obtain ⟨hb3, hf⟩ := ck_ex hf
  obtain ⟨r, w2, hA, hf⟩ := bd2_ex hf
  obtain ⟨r2, σ2, hB, hf⟩ := bd2_ex hf
  split at hf
  · rename_i hq
    subst hq
    cases some_ex hf
    refine V_aload_n dL_law_1064 rfl ?_
    refine V_aload_n dL_law_1065 rfl ?_
    refine V_iload_n dL_law_1066 rfl ?_
    refine V_iconst dL_law_1067 ckc_1 ?_
    refine V_iadd dL_law_1068 ?_
    refine V_sld hX hb1 rfl dL_law_1069 ?_
    refine V_aload_n dL_law_1070 rfl ?_
    refine V_iload_n dL_law_1071 rfl ?_
    refine V_iconst dL_law_1072 ckc_2 ?_
    refine V_iadd dL_law_1073 ?_
    refine V_sld hX hb2 rfl dL_law_1074 ?_
    refine V_aload_n dL_law_1075 rfl ?_
    refine V_iload_n dL_law_1076 rfl ?_
    refine V_iconst dL_law_1077 ckc_3 ?_
    refine V_iadd dL_law_1078 ?_
    refine V_sld hX hb3 rfl dL_law_1079 ?_
    refine V_cV (av := [.int (ys (i + (1 : Int32)).toNatClampNeg), .int (ys (i + (2 : Int32)).toNatClampNeg), .int (ys (i + (3 : Int32)).toNatClampNeg)]) (rest := []) (st' := [.int r]) (callA hL (mC_X0_judge_ok _ _ _ _ _ _ _ _ _ hA)) lvc_22 (WB_kx hL) (by decide) rfl rfl (Nat.le_of_ble_eq_true rfl) dL_law_1080 rfl ?_
    refine V_aload_n dL_law_1083 rfl ?_
    refine V_aload_n dL_law_1084 rfl ?_
    refine V_iload_n dL_law_1085 rfl ?_
    refine V_iconst dL_law_1086 ckc_1 ?_
    refine V_iadd dL_law_1087 ?_
    refine V_sld hX hb1 rfl dL_law_1088 ?_
    refine V_aload_n dL_law_1089 rfl ?_
    refine V_iload_n dL_law_1090 rfl ?_
    refine V_iconst dL_law_1091 ckc_2 ?_
    refine V_iadd dL_law_1092 ?_
    refine V_sld hX hb2 rfl dL_law_1093 ?_
    refine V_aload_n dL_law_1094 rfl ?_
    refine V_iload_n dL_law_1095 rfl ?_
    refine V_iconst dL_law_1096 ckc_3 ?_
    refine V_iadd dL_law_1097 ?_
    refine V_sld hX hb3 rfl dL_law_1098 ?_
    refine V_cV (av := [.int (ys (i + (1 : Int32)).toNatClampNeg), .int (ys (i + (2 : Int32)).toNatClampNeg), .int (ys (i + (3 : Int32)).toNatClampNeg)]) (rest := [.int r]) (st' := [.int r, .int r]) (callB (mM_judge_ok _ _ _ h _ _ _ _ _ _ hB)) lvm_22 WB_kh (by decide) rfl rfl (Nat.le_of_ble_eq_true rfl) dL_law_1099 rfl ?_
    refine V_icmp_eq (tgt := 2039) dL_law_1102 (by decide) (fun _ => kk) (fun hq => absurd rfl hq)
  · cases hf
def lawArm_23 (ys : Nat → Int32) (L : Nat) (i : Int32) (x : Nat) (w : AH) (σ : SM) : Option (AH × SM) :=
  ck (bnd (i + (1 : Int32)) L) <|
  bd2 (mC_X0_booth x (ys (i + (1 : Int32)).toNatClampNeg) w) fun r w1 =>
  bd2 (mM_booth (ys (i + (1 : Int32)).toNatClampNeg) σ) fun r2 σ1 =>
  if r = r2 then some (w1, σ1) else none
theorem lawArm_23_L {h : Nat} {ys : Nat → Int32} {L : Nat} {i : Int32} {x : Nat} {w w1 : AH} {σ σ1 : SM} (hL : LI h x w) (hf : lawArm_23 ys L i x w σ = some (w1, σ1)) : LI h x w1 := by
  unfold lawArm_23 at hf
  obtain ⟨hb1, hf⟩ := ck_ex hf
  obtain ⟨r, w2, hA, hf⟩ := bd2_ex hf
  obtain ⟨r2, σ2, hB, hf⟩ := bd2_ex hf
  split at hf
  · cases some_ex hf
    exact hL.ext (mC_X0_booth_x _ _ _ _ _ hA)
  · cases hf
set_option maxHeartbeats 4000000 in
theorem lawArm_23_v {X : CX} {b L h x : Nat} {ys : Nat → Int32} {i : Int32} {w w1 : AH} {σ σ1 : SM} (hX : SX X b L ys) (hT : (xl X).stackTraces = false) (hL : LI h x w) (hf : lawArm_23 ys L i x w σ = some (w1, σ1))
    (kk : V X cL_law "FirstPollsLaw" 4 1000 (WB h w1 σ1) 2039 [some (.ref b), some (.ref x), some (.ref h), some (.int i)] []) : V X cL_law "FirstPollsLaw" 4 1000 (WB h w σ) 1107 [some (.ref b), some (.ref x), some (.ref h), some (.int i)] [] := by
  unfold lawArm_23 at hf
  obtain ⟨hb1, hf⟩ := ck_ex hf
  obtain ⟨r, w2, hA, hf⟩ := bd2_ex hf
  obtain ⟨r2, σ2, hB, hf⟩ := bd2_ex hf
  split at hf
  · rename_i hq
    subst hq
    cases some_ex hf
    refine V_aload_n dL_law_1107 rfl ?_
    refine V_aload_n dL_law_1108 rfl ?_
    refine V_iload_n dL_law_1109 rfl ?_
    refine V_iconst dL_law_1110 ckc_1 ?_
    refine V_iadd dL_law_1111 ?_
    refine V_sld hX hb1 rfl dL_law_1112 ?_
    refine V_cV (av := [.int (ys (i + (1 : Int32)).toNatClampNeg)]) (rest := []) (st' := [.int r]) (callA hL (mC_X0_booth_ok _ _ _ _ _ _ _ hA)) lvc_23 (WB_kx hL) (by decide) rfl rfl (Nat.le_of_ble_eq_true rfl) dL_law_1113 rfl ?_
    refine V_aload_n dL_law_1116 rfl ?_
    refine V_aload_n dL_law_1117 rfl ?_
    refine V_iload_n dL_law_1118 rfl ?_
    refine V_iconst dL_law_1119 ckc_1 ?_
    refine V_iadd dL_law_1120 ?_
    refine V_sld hX hb1 rfl dL_law_1121 ?_
    refine V_cV (av := [.int (ys (i + (1 : Int32)).toNatClampNeg)]) (rest := [.int r]) (st' := [.int r, .int r]) (callB (mM_booth_ok _ _ _ h _ _ _ _ hB)) lvm_23 WB_kh (by decide) rfl rfl (Nat.le_of_ble_eq_true rfl) dL_law_1122 rfl ?_
    refine V_icmp_eq (tgt := 2039) dL_law_1125 (by decide) (fun _ => kk) (fun hq => absurd rfl hq)
  · cases hf
def lawArm_24 (ys : Nat → Int32) (L : Nat) (i : Int32) (x : Nat) (w : AH) (σ : SM) : Option (AH × SM) :=
  ck (bnd (i + (1 : Int32)) L) <|
  ck (bnd (i + (2 : Int32)) L) <|
  bd2 (mC_X0_box x (ys (i + (1 : Int32)).toNatClampNeg) (ys (i + (2 : Int32)).toNatClampNeg) w) fun r w1 =>
  bd2 (mM_box (ys (i + (1 : Int32)).toNatClampNeg) (ys (i + (2 : Int32)).toNatClampNeg) σ) fun r2 σ1 =>
  if r = r2 then some (w1, σ1) else none
theorem lawArm_24_L {h : Nat} {ys : Nat → Int32} {L : Nat} {i : Int32} {x : Nat} {w w1 : AH} {σ σ1 : SM} (hL : LI h x w) (hf : lawArm_24 ys L i x w σ = some (w1, σ1)) : LI h x w1 := by
  unfold lawArm_24 at hf
  obtain ⟨hb1, hf⟩ := ck_ex hf
  obtain ⟨hb2, hf⟩ := ck_ex hf
  obtain ⟨r, w2, hA, hf⟩ := bd2_ex hf
  obtain ⟨r2, σ2, hB, hf⟩ := bd2_ex hf
  split at hf
  · cases some_ex hf
    exact hL.ext (mC_X0_box_x _ _ _ _ _ _ hA)
  · cases hf
set_option maxHeartbeats 4000000 in
theorem lawArm_24_v {X : CX} {b L h x : Nat} {ys : Nat → Int32} {i : Int32} {w w1 : AH} {σ σ1 : SM} (hX : SX X b L ys) (hT : (xl X).stackTraces = false) (hL : LI h x w) (hf : lawArm_24 ys L i x w σ = some (w1, σ1))
    (kk : V X cL_law "FirstPollsLaw" 4 1000 (WB h w1 σ1) 2039 [some (.ref b), some (.ref x), some (.ref h), some (.int i)] []) : V X cL_law "FirstPollsLaw" 4 1000 (WB h w σ) 1130 [some (.ref b), some (.ref x), some (.ref h), some (.int i)] [] := by
  unfold lawArm_24 at hf
  obtain ⟨hb1, hf⟩ := ck_ex hf
  obtain ⟨hb2, hf⟩ := ck_ex hf
  obtain ⟨r, w2, hA, hf⟩ := bd2_ex hf
  obtain ⟨r2, σ2, hB, hf⟩ := bd2_ex hf
  split at hf
  · rename_i hq
    subst hq
    cases some_ex hf
    refine V_aload_n dL_law_1130 rfl ?_
    refine V_aload_n dL_law_1131 rfl ?_
    refine V_iload_n dL_law_1132 rfl ?_
    refine V_iconst dL_law_1133 ckc_1 ?_
    refine V_iadd dL_law_1134 ?_
    refine V_sld hX hb1 rfl dL_law_1135 ?_
    refine V_aload_n dL_law_1136 rfl ?_
    refine V_iload_n dL_law_1137 rfl ?_
    refine V_iconst dL_law_1138 ckc_2 ?_
    refine V_iadd dL_law_1139 ?_
    refine V_sld hX hb2 rfl dL_law_1140 ?_
    refine V_cV (av := [.int (ys (i + (1 : Int32)).toNatClampNeg), .int (ys (i + (2 : Int32)).toNatClampNeg)]) (rest := []) (st' := [.int r]) (callA hL (mC_X0_box_ok _ _ _ _ _ _ _ _ hA)) lvc_24 (WB_kx hL) (by decide) rfl rfl (Nat.le_of_ble_eq_true rfl) dL_law_1141 rfl ?_
    refine V_aload_n dL_law_1144 rfl ?_
    refine V_aload_n dL_law_1145 rfl ?_
    refine V_iload_n dL_law_1146 rfl ?_
    refine V_iconst dL_law_1147 ckc_1 ?_
    refine V_iadd dL_law_1148 ?_
    refine V_sld hX hb1 rfl dL_law_1149 ?_
    refine V_aload_n dL_law_1150 rfl ?_
    refine V_iload_n dL_law_1151 rfl ?_
    refine V_iconst dL_law_1152 ckc_2 ?_
    refine V_iadd dL_law_1153 ?_
    refine V_sld hX hb2 rfl dL_law_1154 ?_
    refine V_cV (av := [.int (ys (i + (1 : Int32)).toNatClampNeg), .int (ys (i + (2 : Int32)).toNatClampNeg)]) (rest := [.int r]) (st' := [.int r, .int r]) (callB (mM_box_ok _ _ _ h _ _ _ _ _ hB)) lvm_24 WB_kh (by decide) rfl rfl (Nat.le_of_ble_eq_true rfl) dL_law_1155 rfl ?_
    refine V_icmp_eq (tgt := 2039) dL_law_1158 (by decide) (fun _ => kk) (fun hq => absurd rfl hq)
  · cases hf
def lawArm_25 (ys : Nat → Int32) (L : Nat) (i : Int32) (x : Nat) (w : AH) (σ : SM) : Option (AH × SM) :=
  ck (bnd (i + (1 : Int32)) L) <|
  ck (bnd (i + (2 : Int32)) L) <|
  ck (bnd (i + (3 : Int32)) L) <|
  ck (bnd (i + (4 : Int32)) L) <|
  ck (bnd (i + (5 : Int32)) L) <|
  bd2 (mC_X0_hand x (ys (i + (1 : Int32)).toNatClampNeg) (ys (i + (2 : Int32)).toNatClampNeg) (ys (i + (3 : Int32)).toNatClampNeg) (ys (i + (4 : Int32)).toNatClampNeg) (ys (i + (5 : Int32)).toNatClampNeg) w) fun r w1 =>
  bd2 (mM_hand (ys (i + (1 : Int32)).toNatClampNeg) (ys (i + (2 : Int32)).toNatClampNeg) (ys (i + (3 : Int32)).toNatClampNeg) (ys (i + (4 : Int32)).toNatClampNeg) (ys (i + (5 : Int32)).toNatClampNeg) σ) fun r2 σ1 =>
  if r = r2 then some (w1, σ1) else none
theorem lawArm_25_L {h : Nat} {ys : Nat → Int32} {L : Nat} {i : Int32} {x : Nat} {w w1 : AH} {σ σ1 : SM} (hL : LI h x w) (hf : lawArm_25 ys L i x w σ = some (w1, σ1)) : LI h x w1 := by
  unfold lawArm_25 at hf
  obtain ⟨hb1, hf⟩ := ck_ex hf
  obtain ⟨hb2, hf⟩ := ck_ex hf
  obtain ⟨hb3, hf⟩ := ck_ex hf
  obtain ⟨hb4, hf⟩ := ck_ex hf
  obtain ⟨hb5, hf⟩ := ck_ex hf
  obtain ⟨r, w2, hA, hf⟩ := bd2_ex hf
  obtain ⟨r2, σ2, hB, hf⟩ := bd2_ex hf
  split at hf
  · cases some_ex hf
    exact hL.ext (mC_X0_hand_x _ _ _ _ _ _ _ _ _ hA)
  · cases hf
set_option maxHeartbeats 4000000 in
theorem lawArm_25_v {X : CX} {b L h x : Nat} {ys : Nat → Int32} {i : Int32} {w w1 : AH} {σ σ1 : SM} (hX : SX X b L ys) (hT : (xl X).stackTraces = false) (hL : LI h x w) (hf : lawArm_25 ys L i x w σ = some (w1, σ1))
    (kk : V X cL_law "FirstPollsLaw" 4 1000 (WB h w1 σ1) 2039 [some (.ref b), some (.ref x), some (.ref h), some (.int i)] []) : V X cL_law "FirstPollsLaw" 4 1000 (WB h w σ) 1163 [some (.ref b), some (.ref x), some (.ref h), some (.int i)] [] := by
  unfold lawArm_25 at hf
  obtain ⟨hb1, hf⟩ := ck_ex hf
  obtain ⟨hb2, hf⟩ := ck_ex hf
  obtain ⟨hb3, hf⟩ := ck_ex hf
  obtain ⟨hb4, hf⟩ := ck_ex hf
  obtain ⟨hb5, hf⟩ := ck_ex hf
  obtain ⟨r, w2, hA, hf⟩ := bd2_ex hf
  obtain ⟨r2, σ2, hB, hf⟩ := bd2_ex hf
  split at hf
  · rename_i hq
    subst hq
    cases some_ex hf
    refine V_aload_n dL_law_1163 rfl ?_
    refine V_aload_n dL_law_1164 rfl ?_
    refine V_iload_n dL_law_1165 rfl ?_
    refine V_iconst dL_law_1166 ckc_1 ?_
    refine V_iadd dL_law_1167 ?_
    refine V_sld hX hb1 rfl dL_law_1168 ?_
    refine V_aload_n dL_law_1169 rfl ?_
    refine V_iload_n dL_law_1170 rfl ?_
    refine V_iconst dL_law_1171 ckc_2 ?_
    refine V_iadd dL_law_1172 ?_
    refine V_sld hX hb2 rfl dL_law_1173 ?_
    refine V_aload_n dL_law_1174 rfl ?_
    refine V_iload_n dL_law_1175 rfl ?_
    refine V_iconst dL_law_1176 ckc_3 ?_
    refine V_iadd dL_law_1177 ?_
    refine V_sld hX hb3 rfl dL_law_1178 ?_
    refine V_aload_n dL_law_1179 rfl ?_
    refine V_iload_n dL_law_1180 rfl ?_
    refine V_iconst dL_law_1181 ckc_4 ?_
    refine V_iadd dL_law_1182 ?_
    refine V_sld hX hb4 rfl dL_law_1183 ?_
    refine V_aload_n dL_law_1184 rfl ?_
    refine V_iload_n dL_law_1185 rfl ?_
    refine V_iconst dL_law_1186 ckc_5 ?_
    refine V_iadd dL_law_1187 ?_
    refine V_sld hX hb5 rfl dL_law_1188 ?_
    refine V_cV (av := [.int (ys (i + (1 : Int32)).toNatClampNeg), .int (ys (i + (2 : Int32)).toNatClampNeg), .int (ys (i + (3 : Int32)).toNatClampNeg), .int (ys (i + (4 : Int32)).toNatClampNeg), .int (ys (i + (5 : Int32)).toNatClampNeg)]) (rest := []) (st' := [.int r]) (callA hL (mC_X0_hand_ok _ _ _ _ _ _ _ _ _ _ _ hA)) lvc_25 (WB_kx hL) (by decide) rfl rfl (Nat.le_of_ble_eq_true rfl) dL_law_1189 rfl ?_
    refine V_aload_n dL_law_1192 rfl ?_
    refine V_aload_n dL_law_1193 rfl ?_
    refine V_iload_n dL_law_1194 rfl ?_
    refine V_iconst dL_law_1195 ckc_1 ?_
    refine V_iadd dL_law_1196 ?_
    refine V_sld hX hb1 rfl dL_law_1197 ?_
    refine V_aload_n dL_law_1198 rfl ?_
    refine V_iload_n dL_law_1199 rfl ?_
    refine V_iconst dL_law_1200 ckc_2 ?_
    refine V_iadd dL_law_1201 ?_
    refine V_sld hX hb2 rfl dL_law_1202 ?_
    refine V_aload_n dL_law_1203 rfl ?_
    refine V_iload_n dL_law_1204 rfl ?_
    refine V_iconst dL_law_1205 ckc_3 ?_
    refine V_iadd dL_law_1206 ?_
    refine V_sld hX hb3 rfl dL_law_1207 ?_
    refine V_aload_n dL_law_1208 rfl ?_
    refine V_iload_n dL_law_1209 rfl ?_
    refine V_iconst dL_law_1210 ckc_4 ?_
    refine V_iadd dL_law_1211 ?_
    refine V_sld hX hb4 rfl dL_law_1212 ?_
    refine V_aload_n dL_law_1213 rfl ?_
    refine V_iload_n dL_law_1214 rfl ?_
    refine V_iconst dL_law_1215 ckc_5 ?_
    refine V_iadd dL_law_1216 ?_
    refine V_sld hX hb5 rfl dL_law_1217 ?_
    refine V_cV (av := [.int (ys (i + (1 : Int32)).toNatClampNeg), .int (ys (i + (2 : Int32)).toNatClampNeg), .int (ys (i + (3 : Int32)).toNatClampNeg), .int (ys (i + (4 : Int32)).toNatClampNeg), .int (ys (i + (5 : Int32)).toNatClampNeg)]) (rest := [.int r]) (st' := [.int r, .int r]) (callB (mM_hand_ok _ _ _ h _ _ _ _ _ _ _ _ hB)) lvm_25 WB_kh (by decide) rfl rfl (Nat.le_of_ble_eq_true rfl) dL_law_1218 rfl ?_
    refine V_icmp_eq (tgt := 2039) dL_law_1221 (by decide) (fun _ => kk) (fun hq => absurd rfl hq)
  · cases hf
def lawArm_26 (ys : Nat → Int32) (L : Nat) (i : Int32) (x : Nat) (w : AH) (σ : SM) : Option (AH × SM) :=
  ck (bnd (i + (1 : Int32)) L) <|
  ck (bnd (i + (2 : Int32)) L) <|
  ck (bnd (i + (3 : Int32)) L) <|
  bd1 (mC_X0_held x (ys (i + (1 : Int32)).toNatClampNeg) (ys (i + (2 : Int32)).toNatClampNeg) (ys (i + (3 : Int32)).toNatClampNeg) w) fun r =>
  bd2 (mM_held (ys (i + (1 : Int32)).toNatClampNeg) (ys (i + (2 : Int32)).toNatClampNeg) (ys (i + (3 : Int32)).toNatClampNeg) σ) fun r2 σ1 =>
  if r = r2 then some (w, σ1) else none
theorem lawArm_26_L {h : Nat} {ys : Nat → Int32} {L : Nat} {i : Int32} {x : Nat} {w w1 : AH} {σ σ1 : SM} (hL : LI h x w) (hf : lawArm_26 ys L i x w σ = some (w1, σ1)) : LI h x w1 := by
  unfold lawArm_26 at hf
  obtain ⟨hb1, hf⟩ := ck_ex hf
  obtain ⟨hb2, hf⟩ := ck_ex hf
  obtain ⟨hb3, hf⟩ := ck_ex hf
  obtain ⟨r, hA, hf⟩ := bd1_ex hf
  obtain ⟨r2, σ2, hB, hf⟩ := bd2_ex hf
  split at hf
  · cases some_ex hf
    exact hL
  · cases hf
set_option maxHeartbeats 4000000 in
theorem lawArm_26_v {X : CX} {b L h x : Nat} {ys : Nat → Int32} {i : Int32} {w w1 : AH} {σ σ1 : SM} (hX : SX X b L ys) (hT : (xl X).stackTraces = false) (hL : LI h x w) (hf : lawArm_26 ys L i x w σ = some (w1, σ1))
    (kk : V X cL_law "FirstPollsLaw" 4 1000 (WB h w1 σ1) 2039 [some (.ref b), some (.ref x), some (.ref h), some (.int i)] []) : V X cL_law "FirstPollsLaw" 4 1000 (WB h w σ) 1226 [some (.ref b), some (.ref x), some (.ref h), some (.int i)] [] := by
  unfold lawArm_26 at hf
  obtain ⟨hb1, hf⟩ := ck_ex hf
  obtain ⟨hb2, hf⟩ := ck_ex hf
  obtain ⟨hb3, hf⟩ := ck_ex hf
  obtain ⟨r, hA, hf⟩ := bd1_ex hf
  obtain ⟨r2, σ2, hB, hf⟩ := bd2_ex hf
  split at hf
  · rename_i hq
    subst hq
    cases some_ex hf
    refine V_aload_n dL_law_1226 rfl ?_
    refine V_aload_n dL_law_1227 rfl ?_
    refine V_iload_n dL_law_1228 rfl ?_
    refine V_iconst dL_law_1229 ckc_1 ?_
    refine V_iadd dL_law_1230 ?_
    refine V_sld hX hb1 rfl dL_law_1231 ?_
    refine V_aload_n dL_law_1232 rfl ?_
    refine V_iload_n dL_law_1233 rfl ?_
    refine V_iconst dL_law_1234 ckc_2 ?_
    refine V_iadd dL_law_1235 ?_
    refine V_sld hX hb2 rfl dL_law_1236 ?_
    refine V_aload_n dL_law_1237 rfl ?_
    refine V_iload_n dL_law_1238 rfl ?_
    refine V_iconst dL_law_1239 ckc_3 ?_
    refine V_iadd dL_law_1240 ?_
    refine V_sld hX hb3 rfl dL_law_1241 ?_
    refine V_cV (av := [.int (ys (i + (1 : Int32)).toNatClampNeg), .int (ys (i + (2 : Int32)).toNatClampNeg), .int (ys (i + (3 : Int32)).toNatClampNeg)]) (rest := []) (st' := [.int r]) (callA hL (mC_X0_held_ok _ _ _ _ _ _ _ _ hA)) lvc_26 (WB_kx hL) (by decide) rfl rfl (Nat.le_of_ble_eq_true rfl) dL_law_1242 rfl ?_
    refine V_aload_n dL_law_1245 rfl ?_
    refine V_aload_n dL_law_1246 rfl ?_
    refine V_iload_n dL_law_1247 rfl ?_
    refine V_iconst dL_law_1248 ckc_1 ?_
    refine V_iadd dL_law_1249 ?_
    refine V_sld hX hb1 rfl dL_law_1250 ?_
    refine V_aload_n dL_law_1251 rfl ?_
    refine V_iload_n dL_law_1252 rfl ?_
    refine V_iconst dL_law_1253 ckc_2 ?_
    refine V_iadd dL_law_1254 ?_
    refine V_sld hX hb2 rfl dL_law_1255 ?_
    refine V_aload_n dL_law_1256 rfl ?_
    refine V_iload_n dL_law_1257 rfl ?_
    refine V_iconst dL_law_1258 ckc_3 ?_
    refine V_iadd dL_law_1259 ?_
    refine V_sld hX hb3 rfl dL_law_1260 ?_
    refine V_cV (av := [.int (ys (i + (1 : Int32)).toNatClampNeg), .int (ys (i + (2 : Int32)).toNatClampNeg), .int (ys (i + (3 : Int32)).toNatClampNeg)]) (rest := [.int r]) (st' := [.int r, .int r]) (callB (mM_held_ok _ _ _ h _ _ _ _ _ _ hB)) lvm_26 WB_kh (by decide) rfl rfl (Nat.le_of_ble_eq_true rfl) dL_law_1261 rfl ?_
    refine V_icmp_eq (tgt := 2039) dL_law_1264 (by decide) (fun _ => kk) (fun hq => absurd rfl hq)
  · cases hf
def lawArm_27 (ys : Nat → Int32) (L : Nat) (i : Int32) (x : Nat) (w : AH) (σ : SM) : Option (AH × SM) :=
  ck (bnd (i + (1 : Int32)) L) <|
  ck (bnd (i + (2 : Int32)) L) <|
  ck (bnd (i + (3 : Int32)) L) <|
  bd1 (mC_X0_broken x (ys (i + (1 : Int32)).toNatClampNeg) (ys (i + (2 : Int32)).toNatClampNeg) (ys (i + (3 : Int32)).toNatClampNeg) w) fun r =>
  bd2 (mM_broken (ys (i + (1 : Int32)).toNatClampNeg) (ys (i + (2 : Int32)).toNatClampNeg) (ys (i + (3 : Int32)).toNatClampNeg) σ) fun r2 σ1 =>
  if r = r2 then some (w, σ1) else none
theorem lawArm_27_L {h : Nat} {ys : Nat → Int32} {L : Nat} {i : Int32} {x : Nat} {w w1 : AH} {σ σ1 : SM} (hL : LI h x w) (hf : lawArm_27 ys L i x w σ = some (w1, σ1)) : LI h x w1 := by
  unfold lawArm_27 at hf
  obtain ⟨hb1, hf⟩ := ck_ex hf
  obtain ⟨hb2, hf⟩ := ck_ex hf
  obtain ⟨hb3, hf⟩ := ck_ex hf
  obtain ⟨r, hA, hf⟩ := bd1_ex hf
  obtain ⟨r2, σ2, hB, hf⟩ := bd2_ex hf
  split at hf
  · cases some_ex hf
    exact hL
  · cases hf
set_option maxHeartbeats 4000000 in
theorem lawArm_27_v {X : CX} {b L h x : Nat} {ys : Nat → Int32} {i : Int32} {w w1 : AH} {σ σ1 : SM} (hX : SX X b L ys) (hT : (xl X).stackTraces = false) (hL : LI h x w) (hf : lawArm_27 ys L i x w σ = some (w1, σ1))
    (kk : V X cL_law "FirstPollsLaw" 4 1000 (WB h w1 σ1) 2039 [some (.ref b), some (.ref x), some (.ref h), some (.int i)] []) : V X cL_law "FirstPollsLaw" 4 1000 (WB h w σ) 1269 [some (.ref b), some (.ref x), some (.ref h), some (.int i)] [] := by
  unfold lawArm_27 at hf
  obtain ⟨hb1, hf⟩ := ck_ex hf
  obtain ⟨hb2, hf⟩ := ck_ex hf
  obtain ⟨hb3, hf⟩ := ck_ex hf
  obtain ⟨r, hA, hf⟩ := bd1_ex hf
  obtain ⟨r2, σ2, hB, hf⟩ := bd2_ex hf
  split at hf
  · rename_i hq
    subst hq
    cases some_ex hf
    refine V_aload_n dL_law_1269 rfl ?_
    refine V_aload_n dL_law_1270 rfl ?_
    refine V_iload_n dL_law_1271 rfl ?_
    refine V_iconst dL_law_1272 ckc_1 ?_
    refine V_iadd dL_law_1273 ?_
    refine V_sld hX hb1 rfl dL_law_1274 ?_
    refine V_aload_n dL_law_1275 rfl ?_
    refine V_iload_n dL_law_1276 rfl ?_
    refine V_iconst dL_law_1277 ckc_2 ?_
    refine V_iadd dL_law_1278 ?_
    refine V_sld hX hb2 rfl dL_law_1279 ?_
    refine V_aload_n dL_law_1280 rfl ?_
    refine V_iload_n dL_law_1281 rfl ?_
    refine V_iconst dL_law_1282 ckc_3 ?_
    refine V_iadd dL_law_1283 ?_
    refine V_sld hX hb3 rfl dL_law_1284 ?_
    refine V_cV (av := [.int (ys (i + (1 : Int32)).toNatClampNeg), .int (ys (i + (2 : Int32)).toNatClampNeg), .int (ys (i + (3 : Int32)).toNatClampNeg)]) (rest := []) (st' := [.int r]) (callA hL (mC_X0_broken_ok _ _ _ _ _ _ _ _ hA)) lvc_27 (WB_kx hL) (by decide) rfl rfl (Nat.le_of_ble_eq_true rfl) dL_law_1285 rfl ?_
    refine V_aload_n dL_law_1288 rfl ?_
    refine V_aload_n dL_law_1289 rfl ?_
    refine V_iload_n dL_law_1290 rfl ?_
    refine V_iconst dL_law_1291 ckc_1 ?_
    refine V_iadd dL_law_1292 ?_
    refine V_sld hX hb1 rfl dL_law_1293 ?_
    refine V_aload_n dL_law_1294 rfl ?_
    refine V_iload_n dL_law_1295 rfl ?_
    refine V_iconst dL_law_1296 ckc_2 ?_
    refine V_iadd dL_law_1297 ?_
    refine V_sld hX hb2 rfl dL_law_1298 ?_
    refine V_aload_n dL_law_1299 rfl ?_
    refine V_iload_n dL_law_1300 rfl ?_
    refine V_iconst dL_law_1301 ckc_3 ?_
    refine V_iadd dL_law_1302 ?_
    refine V_sld hX hb3 rfl dL_law_1303 ?_
    refine V_cV (av := [.int (ys (i + (1 : Int32)).toNatClampNeg), .int (ys (i + (2 : Int32)).toNatClampNeg), .int (ys (i + (3 : Int32)).toNatClampNeg)]) (rest := [.int r]) (st' := [.int r, .int r]) (callB (mM_broken_ok _ _ _ h _ _ _ _ _ _ hB)) lvm_27 WB_kh (by decide) rfl rfl (Nat.le_of_ble_eq_true rfl) dL_law_1304 rfl ?_
    refine V_icmp_eq (tgt := 2039) dL_law_1307 (by decide) (fun _ => kk) (fun hq => absurd rfl hq)
  · cases hf
def lawArm_28 (ys : Nat → Int32) (L : Nat) (i : Int32) (x : Nat) (w : AH) (σ : SM) : Option (AH × SM) :=
  ck (bnd (i + (1 : Int32)) L) <|
  ck (bnd (i + (2 : Int32)) L) <|
  ck (bnd (i + (3 : Int32)) L) <|
  ck (bnd (i + (4 : Int32)) L) <|
  bd2 (mC_X0_paper x (ys (i + (1 : Int32)).toNatClampNeg) (ys (i + (2 : Int32)).toNatClampNeg) (ys (i + (3 : Int32)).toNatClampNeg) (ys (i + (4 : Int32)).toNatClampNeg) w) fun r w1 =>
  bd2 (mM_paper (ys (i + (1 : Int32)).toNatClampNeg) (ys (i + (2 : Int32)).toNatClampNeg) (ys (i + (3 : Int32)).toNatClampNeg) (ys (i + (4 : Int32)).toNatClampNeg) σ) fun r2 σ1 =>
  if r = r2 then some (w1, σ1) else none
theorem lawArm_28_L {h : Nat} {ys : Nat → Int32} {L : Nat} {i : Int32} {x : Nat} {w w1 : AH} {σ σ1 : SM} (hL : LI h x w) (hf : lawArm_28 ys L i x w σ = some (w1, σ1)) : LI h x w1 := by
  unfold lawArm_28 at hf
  obtain ⟨hb1, hf⟩ := ck_ex hf
  obtain ⟨hb2, hf⟩ := ck_ex hf
  obtain ⟨hb3, hf⟩ := ck_ex hf
  obtain ⟨hb4, hf⟩ := ck_ex hf
  obtain ⟨r, w2, hA, hf⟩ := bd2_ex hf
  obtain ⟨r2, σ2, hB, hf⟩ := bd2_ex hf
  split at hf
  · cases some_ex hf
    exact hL.ext (mC_X0_paper_x _ _ _ _ _ _ _ _ hA)
  · cases hf
set_option maxHeartbeats 4000000 in
theorem lawArm_28_v {X : CX} {b L h x : Nat} {ys : Nat → Int32} {i : Int32} {w w1 : AH} {σ σ1 : SM} (hX : SX X b L ys) (hT : (xl X).stackTraces = false) (hL : LI h x w) (hf : lawArm_28 ys L i x w σ = some (w1, σ1))
    (kk : V X cL_law "FirstPollsLaw" 4 1000 (WB h w1 σ1) 2039 [some (.ref b), some (.ref x), some (.ref h), some (.int i)] []) : V X cL_law "FirstPollsLaw" 4 1000 (WB h w σ) 1312 [some (.ref b), some (.ref x), some (.ref h), some (.int i)] [] := by
  unfold lawArm_28 at hf
  obtain ⟨hb1, hf⟩ := ck_ex hf
  obtain ⟨hb2, hf⟩ := ck_ex hf
  obtain ⟨hb3, hf⟩ := ck_ex hf
  obtain ⟨hb4, hf⟩ := ck_ex hf
  obtain ⟨r, w2, hA, hf⟩ := bd2_ex hf
  obtain ⟨r2, σ2, hB, hf⟩ := bd2_ex hf
  split at hf
  · rename_i hq
    subst hq
    cases some_ex hf
    refine V_aload_n dL_law_1312 rfl ?_
    refine V_aload_n dL_law_1313 rfl ?_
    refine V_iload_n dL_law_1314 rfl ?_
    refine V_iconst dL_law_1315 ckc_1 ?_
    refine V_iadd dL_law_1316 ?_
    refine V_sld hX hb1 rfl dL_law_1317 ?_
    refine V_aload_n dL_law_1318 rfl ?_
    refine V_iload_n dL_law_1319 rfl ?_
    refine V_iconst dL_law_1320 ckc_2 ?_
    refine V_iadd dL_law_1321 ?_
    refine V_sld hX hb2 rfl dL_law_1322 ?_
    refine V_aload_n dL_law_1323 rfl ?_
    refine V_iload_n dL_law_1324 rfl ?_
    refine V_iconst dL_law_1325 ckc_3 ?_
    refine V_iadd dL_law_1326 ?_
    refine V_sld hX hb3 rfl dL_law_1327 ?_
    refine V_aload_n dL_law_1328 rfl ?_
    refine V_iload_n dL_law_1329 rfl ?_
    refine V_iconst dL_law_1330 ckc_4 ?_
    refine V_iadd dL_law_1331 ?_
    refine V_sld hX hb4 rfl dL_law_1332 ?_
    refine V_cV (av := [.int (ys (i + (1 : Int32)).toNatClampNeg), .int (ys (i + (2 : Int32)).toNatClampNeg), .int (ys (i + (3 : Int32)).toNatClampNeg), .int (ys (i + (4 : Int32)).toNatClampNeg)]) (rest := []) (st' := [.int r]) (callA hL (mC_X0_paper_ok _ _ _ _ _ _ _ _ _ _ hA)) lvc_28 (WB_kx hL) (by decide) rfl rfl (Nat.le_of_ble_eq_true rfl) dL_law_1333 rfl ?_
    refine V_aload_n dL_law_1336 rfl ?_
    refine V_aload_n dL_law_1337 rfl ?_
    refine V_iload_n dL_law_1338 rfl ?_
    refine V_iconst dL_law_1339 ckc_1 ?_
    refine V_iadd dL_law_1340 ?_
    refine V_sld hX hb1 rfl dL_law_1341 ?_
    refine V_aload_n dL_law_1342 rfl ?_
    refine V_iload_n dL_law_1343 rfl ?_
    refine V_iconst dL_law_1344 ckc_2 ?_
    refine V_iadd dL_law_1345 ?_
    refine V_sld hX hb2 rfl dL_law_1346 ?_
    refine V_aload_n dL_law_1347 rfl ?_
    refine V_iload_n dL_law_1348 rfl ?_
    refine V_iconst dL_law_1349 ckc_3 ?_
    refine V_iadd dL_law_1350 ?_
    refine V_sld hX hb3 rfl dL_law_1351 ?_
    refine V_aload_n dL_law_1352 rfl ?_
    refine V_iload_n dL_law_1353 rfl ?_
    refine V_iconst dL_law_1354 ckc_4 ?_
    refine V_iadd dL_law_1355 ?_
    refine V_sld hX hb4 rfl dL_law_1356 ?_
    refine V_cV (av := [.int (ys (i + (1 : Int32)).toNatClampNeg), .int (ys (i + (2 : Int32)).toNatClampNeg), .int (ys (i + (3 : Int32)).toNatClampNeg), .int (ys (i + (4 : Int32)).toNatClampNeg)]) (rest := [.int r]) (st' := [.int r, .int r]) (callB (mM_paper_ok _ _ _ h _ _ _ _ _ _ _ hB)) lvm_28 WB_kh (by decide) rfl rfl (Nat.le_of_ble_eq_true rfl) dL_law_1357 rfl ?_
    refine V_icmp_eq (tgt := 2039) dL_law_1360 (by decide) (fun _ => kk) (fun hq => absurd rfl hq)
  · cases hf
def lawArm_29 (ys : Nat → Int32) (L : Nat) (i : Int32) (x : Nat) (w : AH) (σ : SM) : Option (AH × SM) :=
  ck (bnd (i + (1 : Int32)) L) <|
  ck (bnd (i + (2 : Int32)) L) <|
  ck (bnd (i + (3 : Int32)) L) <|
  ck (bnd (i + (4 : Int32)) L) <|
  ck (bnd (i + (5 : Int32)) L) <|
  bd2 (mC_X0_count x (ys (i + (1 : Int32)).toNatClampNeg) (ys (i + (2 : Int32)).toNatClampNeg) (ys (i + (3 : Int32)).toNatClampNeg) (ys (i + (4 : Int32)).toNatClampNeg) (ys (i + (5 : Int32)).toNatClampNeg) w) fun r w1 =>
  bd2 (mM_count (ys (i + (1 : Int32)).toNatClampNeg) (ys (i + (2 : Int32)).toNatClampNeg) (ys (i + (3 : Int32)).toNatClampNeg) (ys (i + (4 : Int32)).toNatClampNeg) (ys (i + (5 : Int32)).toNatClampNeg) σ) fun r2 σ1 =>
  if r = r2 then some (w1, σ1) else none
theorem lawArm_29_L {h : Nat} {ys : Nat → Int32} {L : Nat} {i : Int32} {x : Nat} {w w1 : AH} {σ σ1 : SM} (hL : LI h x w) (hf : lawArm_29 ys L i x w σ = some (w1, σ1)) : LI h x w1 := by
  unfold lawArm_29 at hf
  obtain ⟨hb1, hf⟩ := ck_ex hf
  obtain ⟨hb2, hf⟩ := ck_ex hf
  obtain ⟨hb3, hf⟩ := ck_ex hf
  obtain ⟨hb4, hf⟩ := ck_ex hf
  obtain ⟨hb5, hf⟩ := ck_ex hf
  obtain ⟨r, w2, hA, hf⟩ := bd2_ex hf
  obtain ⟨r2, σ2, hB, hf⟩ := bd2_ex hf
  split at hf
  · cases some_ex hf
    exact hL.ext (mC_X0_count_x _ _ _ _ _ _ _ _ _ hA)
  · cases hf
set_option maxHeartbeats 4000000 in
theorem lawArm_29_v {X : CX} {b L h x : Nat} {ys : Nat → Int32} {i : Int32} {w w1 : AH} {σ σ1 : SM} (hX : SX X b L ys) (hT : (xl X).stackTraces = false) (hL : LI h x w) (hf : lawArm_29 ys L i x w σ = some (w1, σ1))
    (kk : V X cL_law "FirstPollsLaw" 4 1000 (WB h w1 σ1) 2039 [some (.ref b), some (.ref x), some (.ref h), some (.int i)] []) : V X cL_law "FirstPollsLaw" 4 1000 (WB h w σ) 1365 [some (.ref b), some (.ref x), some (.ref h), some (.int i)] [] := by
  unfold lawArm_29 at hf
  obtain ⟨hb1, hf⟩ := ck_ex hf
  obtain ⟨hb2, hf⟩ := ck_ex hf
  obtain ⟨hb3, hf⟩ := ck_ex hf
  obtain ⟨hb4, hf⟩ := ck_ex hf
  obtain ⟨hb5, hf⟩ := ck_ex hf
  obtain ⟨r, w2, hA, hf⟩ := bd2_ex hf
  obtain ⟨r2, σ2, hB, hf⟩ := bd2_ex hf
  split at hf
  · rename_i hq
    subst hq
    cases some_ex hf
    refine V_aload_n dL_law_1365 rfl ?_
    refine V_aload_n dL_law_1366 rfl ?_
    refine V_iload_n dL_law_1367 rfl ?_
    refine V_iconst dL_law_1368 ckc_1 ?_
    refine V_iadd dL_law_1369 ?_
    refine V_sld hX hb1 rfl dL_law_1370 ?_
    refine V_aload_n dL_law_1371 rfl ?_
    refine V_iload_n dL_law_1372 rfl ?_
    refine V_iconst dL_law_1373 ckc_2 ?_
    refine V_iadd dL_law_1374 ?_
    refine V_sld hX hb2 rfl dL_law_1375 ?_
    refine V_aload_n dL_law_1376 rfl ?_
    refine V_iload_n dL_law_1377 rfl ?_
    refine V_iconst dL_law_1378 ckc_3 ?_
    refine V_iadd dL_law_1379 ?_
    refine V_sld hX hb3 rfl dL_law_1380 ?_
    refine V_aload_n dL_law_1381 rfl ?_
    refine V_iload_n dL_law_1382 rfl ?_
    refine V_iconst dL_law_1383 ckc_4 ?_
    refine V_iadd dL_law_1384 ?_
    refine V_sld hX hb4 rfl dL_law_1385 ?_
    refine V_aload_n dL_law_1386 rfl ?_
    refine V_iload_n dL_law_1387 rfl ?_
    refine V_iconst dL_law_1388 ckc_5 ?_
    refine V_iadd dL_law_1389 ?_
    refine V_sld hX hb5 rfl dL_law_1390 ?_
    refine V_cV (av := [.int (ys (i + (1 : Int32)).toNatClampNeg), .int (ys (i + (2 : Int32)).toNatClampNeg), .int (ys (i + (3 : Int32)).toNatClampNeg), .int (ys (i + (4 : Int32)).toNatClampNeg), .int (ys (i + (5 : Int32)).toNatClampNeg)]) (rest := []) (st' := [.int r]) (callA hL (mC_X0_count_ok _ _ _ _ _ _ _ _ _ _ _ hA)) lvc_29 (WB_kx hL) (by decide) rfl rfl (Nat.le_of_ble_eq_true rfl) dL_law_1391 rfl ?_
    refine V_aload_n dL_law_1394 rfl ?_
    refine V_aload_n dL_law_1395 rfl ?_
    refine V_iload_n dL_law_1396 rfl ?_
    refine V_iconst dL_law_1397 ckc_1 ?_
    refine V_iadd dL_law_1398 ?_
    refine V_sld hX hb1 rfl dL_law_1399 ?_
    refine V_aload_n dL_law_1400 rfl ?_
    refine V_iload_n dL_law_1401 rfl ?_
    refine V_iconst dL_law_1402 ckc_2 ?_
    refine V_iadd dL_law_1403 ?_
    refine V_sld hX hb2 rfl dL_law_1404 ?_
    refine V_aload_n dL_law_1405 rfl ?_
    refine V_iload_n dL_law_1406 rfl ?_
    refine V_iconst dL_law_1407 ckc_3 ?_
    refine V_iadd dL_law_1408 ?_
    refine V_sld hX hb3 rfl dL_law_1409 ?_
    refine V_aload_n dL_law_1410 rfl ?_
    refine V_iload_n dL_law_1411 rfl ?_
    refine V_iconst dL_law_1412 ckc_4 ?_
    refine V_iadd dL_law_1413 ?_
    refine V_sld hX hb4 rfl dL_law_1414 ?_
    refine V_aload_n dL_law_1415 rfl ?_
    refine V_iload_n dL_law_1416 rfl ?_
    refine V_iconst dL_law_1417 ckc_5 ?_
    refine V_iadd dL_law_1418 ?_
    refine V_sld hX hb5 rfl dL_law_1419 ?_
    refine V_cV (av := [.int (ys (i + (1 : Int32)).toNatClampNeg), .int (ys (i + (2 : Int32)).toNatClampNeg), .int (ys (i + (3 : Int32)).toNatClampNeg), .int (ys (i + (4 : Int32)).toNatClampNeg), .int (ys (i + (5 : Int32)).toNatClampNeg)]) (rest := [.int r]) (st' := [.int r, .int r]) (callB (mM_count_ok _ _ _ h _ _ _ _ _ _ _ _ hB)) lvm_29 WB_kh (by decide) rfl rfl (Nat.le_of_ble_eq_true rfl) dL_law_1420 rfl ?_
    refine V_icmp_eq (tgt := 2039) dL_law_1423 (by decide) (fun _ => kk) (fun hq => absurd rfl hq)
  · cases hf
def lawArm_30 (ys : Nat → Int32) (L : Nat) (i : Int32) (x : Nat) (w : AH) (σ : SM) : Option (AH × SM) :=
  ck (bnd (i + (1 : Int32)) L) <|
  ck (bnd (i + (2 : Int32)) L) <|
  ck (bnd (i + (3 : Int32)) L) <|
  ck (bnd (i + (4 : Int32)) L) <|
  bd2 (mC_X0_tells x (ys (i + (1 : Int32)).toNatClampNeg) (ys (i + (2 : Int32)).toNatClampNeg) (ys (i + (3 : Int32)).toNatClampNeg) (ys (i + (4 : Int32)).toNatClampNeg) w) fun r w1 =>
  bd2 (mM_tells (ys (i + (1 : Int32)).toNatClampNeg) (ys (i + (2 : Int32)).toNatClampNeg) (ys (i + (3 : Int32)).toNatClampNeg) (ys (i + (4 : Int32)).toNatClampNeg) σ) fun r2 σ1 =>
  if r = r2 then some (w1, σ1) else none
theorem lawArm_30_L {h : Nat} {ys : Nat → Int32} {L : Nat} {i : Int32} {x : Nat} {w w1 : AH} {σ σ1 : SM} (hL : LI h x w) (hf : lawArm_30 ys L i x w σ = some (w1, σ1)) : LI h x w1 := by
  unfold lawArm_30 at hf
  obtain ⟨hb1, hf⟩ := ck_ex hf
  obtain ⟨hb2, hf⟩ := ck_ex hf
  obtain ⟨hb3, hf⟩ := ck_ex hf
  obtain ⟨hb4, hf⟩ := ck_ex hf
  obtain ⟨r, w2, hA, hf⟩ := bd2_ex hf
  obtain ⟨r2, σ2, hB, hf⟩ := bd2_ex hf
  split at hf
  · cases some_ex hf
    exact hL.ext (mC_X0_tells_x _ _ _ _ _ _ _ _ hA)
  · cases hf
set_option maxHeartbeats 4000000 in
theorem lawArm_30_v {X : CX} {b L h x : Nat} {ys : Nat → Int32} {i : Int32} {w w1 : AH} {σ σ1 : SM} (hX : SX X b L ys) (hT : (xl X).stackTraces = false) (hL : LI h x w) (hf : lawArm_30 ys L i x w σ = some (w1, σ1))
    (kk : V X cL_law "FirstPollsLaw" 4 1000 (WB h w1 σ1) 2039 [some (.ref b), some (.ref x), some (.ref h), some (.int i)] []) : V X cL_law "FirstPollsLaw" 4 1000 (WB h w σ) 1428 [some (.ref b), some (.ref x), some (.ref h), some (.int i)] [] := by
  unfold lawArm_30 at hf
  obtain ⟨hb1, hf⟩ := ck_ex hf
  obtain ⟨hb2, hf⟩ := ck_ex hf
  obtain ⟨hb3, hf⟩ := ck_ex hf
  obtain ⟨hb4, hf⟩ := ck_ex hf
  obtain ⟨r, w2, hA, hf⟩ := bd2_ex hf
  obtain ⟨r2, σ2, hB, hf⟩ := bd2_ex hf
  split at hf
  · rename_i hq
    subst hq
    cases some_ex hf
    refine V_aload_n dL_law_1428 rfl ?_
    refine V_aload_n dL_law_1429 rfl ?_
    refine V_iload_n dL_law_1430 rfl ?_
    refine V_iconst dL_law_1431 ckc_1 ?_
    refine V_iadd dL_law_1432 ?_
    refine V_sld hX hb1 rfl dL_law_1433 ?_
    refine V_aload_n dL_law_1434 rfl ?_
    refine V_iload_n dL_law_1435 rfl ?_
    refine V_iconst dL_law_1436 ckc_2 ?_
    refine V_iadd dL_law_1437 ?_
    refine V_sld hX hb2 rfl dL_law_1438 ?_
    refine V_aload_n dL_law_1439 rfl ?_
    refine V_iload_n dL_law_1440 rfl ?_
    refine V_iconst dL_law_1441 ckc_3 ?_
    refine V_iadd dL_law_1442 ?_
    refine V_sld hX hb3 rfl dL_law_1443 ?_
    refine V_aload_n dL_law_1444 rfl ?_
    refine V_iload_n dL_law_1445 rfl ?_
    refine V_iconst dL_law_1446 ckc_4 ?_
    refine V_iadd dL_law_1447 ?_
    refine V_sld hX hb4 rfl dL_law_1448 ?_
    refine V_cV (av := [.int (ys (i + (1 : Int32)).toNatClampNeg), .int (ys (i + (2 : Int32)).toNatClampNeg), .int (ys (i + (3 : Int32)).toNatClampNeg), .int (ys (i + (4 : Int32)).toNatClampNeg)]) (rest := []) (st' := [.int r]) (callA hL (mC_X0_tells_ok _ _ _ _ _ _ _ _ _ _ hA)) lvc_30 (WB_kx hL) (by decide) rfl rfl (Nat.le_of_ble_eq_true rfl) dL_law_1449 rfl ?_
    refine V_aload_n dL_law_1452 rfl ?_
    refine V_aload_n dL_law_1453 rfl ?_
    refine V_iload_n dL_law_1454 rfl ?_
    refine V_iconst dL_law_1455 ckc_1 ?_
    refine V_iadd dL_law_1456 ?_
    refine V_sld hX hb1 rfl dL_law_1457 ?_
    refine V_aload_n dL_law_1458 rfl ?_
    refine V_iload_n dL_law_1459 rfl ?_
    refine V_iconst dL_law_1460 ckc_2 ?_
    refine V_iadd dL_law_1461 ?_
    refine V_sld hX hb2 rfl dL_law_1462 ?_
    refine V_aload_n dL_law_1463 rfl ?_
    refine V_iload_n dL_law_1464 rfl ?_
    refine V_iconst dL_law_1465 ckc_3 ?_
    refine V_iadd dL_law_1466 ?_
    refine V_sld hX hb3 rfl dL_law_1467 ?_
    refine V_aload_n dL_law_1468 rfl ?_
    refine V_iload_n dL_law_1469 rfl ?_
    refine V_iconst dL_law_1470 ckc_4 ?_
    refine V_iadd dL_law_1471 ?_
    refine V_sld hX hb4 rfl dL_law_1472 ?_
    refine V_cV (av := [.int (ys (i + (1 : Int32)).toNatClampNeg), .int (ys (i + (2 : Int32)).toNatClampNeg), .int (ys (i + (3 : Int32)).toNatClampNeg), .int (ys (i + (4 : Int32)).toNatClampNeg)]) (rest := [.int r]) (st' := [.int r, .int r]) (callB (mM_tells_ok _ _ _ h _ _ _ _ _ _ _ hB)) lvm_30 WB_kh (by decide) rfl rfl (Nat.le_of_ble_eq_true rfl) dL_law_1473 rfl ?_
    refine V_icmp_eq (tgt := 2039) dL_law_1476 (by decide) (fun _ => kk) (fun hq => absurd rfl hq)
  · cases hf
def lawArm_31 (ys : Nat → Int32) (L : Nat) (i : Int32) (x : Nat) (w : AH) (σ : SM) : Option (AH × SM) :=
  ck (bnd (i + (1 : Int32)) L) <|
  ck (bnd (i + (2 : Int32)) L) <|
  bd2 (mC_X0_keep x (ys (i + (1 : Int32)).toNatClampNeg) (ys (i + (2 : Int32)).toNatClampNeg) w) fun r w1 =>
  bd2 (mM_keep (ys (i + (1 : Int32)).toNatClampNeg) (ys (i + (2 : Int32)).toNatClampNeg) σ) fun r2 σ1 =>
  if r = r2 then some (w1, σ1) else none
theorem lawArm_31_L {h : Nat} {ys : Nat → Int32} {L : Nat} {i : Int32} {x : Nat} {w w1 : AH} {σ σ1 : SM} (hL : LI h x w) (hf : lawArm_31 ys L i x w σ = some (w1, σ1)) : LI h x w1 := by
  unfold lawArm_31 at hf
  obtain ⟨hb1, hf⟩ := ck_ex hf
  obtain ⟨hb2, hf⟩ := ck_ex hf
  obtain ⟨r, w2, hA, hf⟩ := bd2_ex hf
  obtain ⟨r2, σ2, hB, hf⟩ := bd2_ex hf
  split at hf
  · cases some_ex hf
    exact hL.ext (mC_X0_keep_x _ _ _ _ _ _ hA)
  · cases hf
set_option maxHeartbeats 4000000 in
theorem lawArm_31_v {X : CX} {b L h x : Nat} {ys : Nat → Int32} {i : Int32} {w w1 : AH} {σ σ1 : SM} (hX : SX X b L ys) (hT : (xl X).stackTraces = false) (hL : LI h x w) (hf : lawArm_31 ys L i x w σ = some (w1, σ1))
    (kk : V X cL_law "FirstPollsLaw" 4 1000 (WB h w1 σ1) 2039 [some (.ref b), some (.ref x), some (.ref h), some (.int i)] []) : V X cL_law "FirstPollsLaw" 4 1000 (WB h w σ) 1481 [some (.ref b), some (.ref x), some (.ref h), some (.int i)] [] := by
  unfold lawArm_31 at hf
  obtain ⟨hb1, hf⟩ := ck_ex hf
  obtain ⟨hb2, hf⟩ := ck_ex hf
  obtain ⟨r, w2, hA, hf⟩ := bd2_ex hf
  obtain ⟨r2, σ2, hB, hf⟩ := bd2_ex hf
  split at hf
  · rename_i hq
    subst hq
    cases some_ex hf
    refine V_aload_n dL_law_1481 rfl ?_
    refine V_aload_n dL_law_1482 rfl ?_
    refine V_iload_n dL_law_1483 rfl ?_
    refine V_iconst dL_law_1484 ckc_1 ?_
    refine V_iadd dL_law_1485 ?_
    refine V_sld hX hb1 rfl dL_law_1486 ?_
    refine V_aload_n dL_law_1487 rfl ?_
    refine V_iload_n dL_law_1488 rfl ?_
    refine V_iconst dL_law_1489 ckc_2 ?_
    refine V_iadd dL_law_1490 ?_
    refine V_sld hX hb2 rfl dL_law_1491 ?_
    refine V_cV (av := [.int (ys (i + (1 : Int32)).toNatClampNeg), .int (ys (i + (2 : Int32)).toNatClampNeg)]) (rest := []) (st' := [.int r]) (callA hL (mC_X0_keep_ok _ _ _ _ _ _ _ _ hA)) lvc_31 (WB_kx hL) (by decide) rfl rfl (Nat.le_of_ble_eq_true rfl) dL_law_1492 rfl ?_
    refine V_aload_n dL_law_1495 rfl ?_
    refine V_aload_n dL_law_1496 rfl ?_
    refine V_iload_n dL_law_1497 rfl ?_
    refine V_iconst dL_law_1498 ckc_1 ?_
    refine V_iadd dL_law_1499 ?_
    refine V_sld hX hb1 rfl dL_law_1500 ?_
    refine V_aload_n dL_law_1501 rfl ?_
    refine V_iload_n dL_law_1502 rfl ?_
    refine V_iconst dL_law_1503 ckc_2 ?_
    refine V_iadd dL_law_1504 ?_
    refine V_sld hX hb2 rfl dL_law_1505 ?_
    refine V_cV (av := [.int (ys (i + (1 : Int32)).toNatClampNeg), .int (ys (i + (2 : Int32)).toNatClampNeg)]) (rest := [.int r]) (st' := [.int r, .int r]) (callB (mM_keep_ok _ _ _ h _ _ _ _ _ hB)) lvm_31 WB_kh (by decide) rfl rfl (Nat.le_of_ble_eq_true rfl) dL_law_1506 rfl ?_
    refine V_icmp_eq (tgt := 2039) dL_law_1509 (by decide) (fun _ => kk) (fun hq => absurd rfl hq)
  · cases hf
def lawArm_32 (ys : Nat → Int32) (L : Nat) (i : Int32) (x : Nat) (w : AH) (σ : SM) : Option (AH × SM) :=
  ck (bnd (i + (1 : Int32)) L) <|
  ck (bnd (i + (2 : Int32)) L) <|
  ck (bnd (i + (3 : Int32)) L) <|
  ck (bnd (i + (4 : Int32)) L) <|
  bd2 (mC_X0_seat x (ys (i + (1 : Int32)).toNatClampNeg) (ys (i + (2 : Int32)).toNatClampNeg) (ys (i + (3 : Int32)).toNatClampNeg) (ys (i + (4 : Int32)).toNatClampNeg) w) fun r w1 =>
  bd2 (mM_seat (ys (i + (1 : Int32)).toNatClampNeg) (ys (i + (2 : Int32)).toNatClampNeg) (ys (i + (3 : Int32)).toNatClampNeg) (ys (i + (4 : Int32)).toNatClampNeg) σ) fun r2 σ1 =>
  if r = r2 then some (w1, σ1) else none
theorem lawArm_32_L {h : Nat} {ys : Nat → Int32} {L : Nat} {i : Int32} {x : Nat} {w w1 : AH} {σ σ1 : SM} (hL : LI h x w) (hf : lawArm_32 ys L i x w σ = some (w1, σ1)) : LI h x w1 := by
  unfold lawArm_32 at hf
  obtain ⟨hb1, hf⟩ := ck_ex hf
  obtain ⟨hb2, hf⟩ := ck_ex hf
  obtain ⟨hb3, hf⟩ := ck_ex hf
  obtain ⟨hb4, hf⟩ := ck_ex hf
  obtain ⟨r, w2, hA, hf⟩ := bd2_ex hf
  obtain ⟨r2, σ2, hB, hf⟩ := bd2_ex hf
  split at hf
  · cases some_ex hf
    exact hL.ext (mC_X0_seat_x _ _ _ _ _ _ _ _ hA)
  · cases hf
set_option maxHeartbeats 4000000 in
theorem lawArm_32_v {X : CX} {b L h x : Nat} {ys : Nat → Int32} {i : Int32} {w w1 : AH} {σ σ1 : SM} (hX : SX X b L ys) (hT : (xl X).stackTraces = false) (hL : LI h x w) (hf : lawArm_32 ys L i x w σ = some (w1, σ1))
    (kk : V X cL_law "FirstPollsLaw" 4 1000 (WB h w1 σ1) 2039 [some (.ref b), some (.ref x), some (.ref h), some (.int i)] []) : V X cL_law "FirstPollsLaw" 4 1000 (WB h w σ) 1514 [some (.ref b), some (.ref x), some (.ref h), some (.int i)] [] := by
  unfold lawArm_32 at hf
  obtain ⟨hb1, hf⟩ := ck_ex hf
  obtain ⟨hb2, hf⟩ := ck_ex hf
  obtain ⟨hb3, hf⟩ := ck_ex hf
  obtain ⟨hb4, hf⟩ := ck_ex hf
  obtain ⟨r, w2, hA, hf⟩ := bd2_ex hf
  obtain ⟨r2, σ2, hB, hf⟩ := bd2_ex hf
  split at hf
  · rename_i hq
    subst hq
    cases some_ex hf
    refine V_aload_n dL_law_1514 rfl ?_
    refine V_aload_n dL_law_1515 rfl ?_
    refine V_iload_n dL_law_1516 rfl ?_
    refine V_iconst dL_law_1517 ckc_1 ?_
    refine V_iadd dL_law_1518 ?_
    refine V_sld hX hb1 rfl dL_law_1519 ?_
    refine V_aload_n dL_law_1520 rfl ?_
    refine V_iload_n dL_law_1521 rfl ?_
    refine V_iconst dL_law_1522 ckc_2 ?_
    refine V_iadd dL_law_1523 ?_
    refine V_sld hX hb2 rfl dL_law_1524 ?_
    refine V_aload_n dL_law_1525 rfl ?_
    refine V_iload_n dL_law_1526 rfl ?_
    refine V_iconst dL_law_1527 ckc_3 ?_
    refine V_iadd dL_law_1528 ?_
    refine V_sld hX hb3 rfl dL_law_1529 ?_
    refine V_aload_n dL_law_1530 rfl ?_
    refine V_iload_n dL_law_1531 rfl ?_
    refine V_iconst dL_law_1532 ckc_4 ?_
    refine V_iadd dL_law_1533 ?_
    refine V_sld hX hb4 rfl dL_law_1534 ?_
    refine V_cV (av := [.int (ys (i + (1 : Int32)).toNatClampNeg), .int (ys (i + (2 : Int32)).toNatClampNeg), .int (ys (i + (3 : Int32)).toNatClampNeg), .int (ys (i + (4 : Int32)).toNatClampNeg)]) (rest := []) (st' := [.int r]) (callA hL (mC_X0_seat_ok _ _ _ _ _ _ _ _ _ _ hA)) lvc_32 (WB_kx hL) (by decide) rfl rfl (Nat.le_of_ble_eq_true rfl) dL_law_1535 rfl ?_
    refine V_aload_n dL_law_1538 rfl ?_
    refine V_aload_n dL_law_1539 rfl ?_
    refine V_iload_n dL_law_1540 rfl ?_
    refine V_iconst dL_law_1541 ckc_1 ?_
    refine V_iadd dL_law_1542 ?_
    refine V_sld hX hb1 rfl dL_law_1543 ?_
    refine V_aload_n dL_law_1544 rfl ?_
    refine V_iload_n dL_law_1545 rfl ?_
    refine V_iconst dL_law_1546 ckc_2 ?_
    refine V_iadd dL_law_1547 ?_
    refine V_sld hX hb2 rfl dL_law_1548 ?_
    refine V_aload_n dL_law_1549 rfl ?_
    refine V_iload_n dL_law_1550 rfl ?_
    refine V_iconst dL_law_1551 ckc_3 ?_
    refine V_iadd dL_law_1552 ?_
    refine V_sld hX hb3 rfl dL_law_1553 ?_
    refine V_aload_n dL_law_1554 rfl ?_
    refine V_iload_n dL_law_1555 rfl ?_
    refine V_iconst dL_law_1556 ckc_4 ?_
    refine V_iadd dL_law_1557 ?_
    refine V_sld hX hb4 rfl dL_law_1558 ?_
    refine V_cV (av := [.int (ys (i + (1 : Int32)).toNatClampNeg), .int (ys (i + (2 : Int32)).toNatClampNeg), .int (ys (i + (3 : Int32)).toNatClampNeg), .int (ys (i + (4 : Int32)).toNatClampNeg)]) (rest := [.int r]) (st' := [.int r, .int r]) (callB (mM_seat_ok _ _ _ h _ _ _ _ _ _ _ hB)) lvm_32 WB_kh (by decide) rfl rfl (Nat.le_of_ble_eq_true rfl) dL_law_1559 rfl ?_
    refine V_icmp_eq (tgt := 2039) dL_law_1562 (by decide) (fun _ => kk) (fun hq => absurd rfl hq)
  · cases hf
def lawArm_33 (ys : Nat → Int32) (L : Nat) (i : Int32) (x : Nat) (w : AH) (σ : SM) : Option (AH × SM) :=
  ck (bnd (i + (1 : Int32)) L) <|
  ck (bnd (i + (2 : Int32)) L) <|
  ck (bnd (i + (3 : Int32)) L) <|
  ck (bnd (i + (4 : Int32)) L) <|
  ck (bnd (i + (5 : Int32)) L) <|
  bd2 (mC_X0_hidden x (ys (i + (1 : Int32)).toNatClampNeg) (ys (i + (2 : Int32)).toNatClampNeg) (ys (i + (3 : Int32)).toNatClampNeg) (ys (i + (4 : Int32)).toNatClampNeg) (ys (i + (5 : Int32)).toNatClampNeg) w) fun r w1 =>
  bd2 (mM_hidden (ys (i + (1 : Int32)).toNatClampNeg) (ys (i + (2 : Int32)).toNatClampNeg) (ys (i + (3 : Int32)).toNatClampNeg) (ys (i + (4 : Int32)).toNatClampNeg) (ys (i + (5 : Int32)).toNatClampNeg) σ) fun r2 σ1 =>
  if r = r2 then some (w1, σ1) else none
theorem lawArm_33_L {h : Nat} {ys : Nat → Int32} {L : Nat} {i : Int32} {x : Nat} {w w1 : AH} {σ σ1 : SM} (hL : LI h x w) (hf : lawArm_33 ys L i x w σ = some (w1, σ1)) : LI h x w1 := by
  unfold lawArm_33 at hf
  obtain ⟨hb1, hf⟩ := ck_ex hf
  obtain ⟨hb2, hf⟩ := ck_ex hf
  obtain ⟨hb3, hf⟩ := ck_ex hf
  obtain ⟨hb4, hf⟩ := ck_ex hf
  obtain ⟨hb5, hf⟩ := ck_ex hf
  obtain ⟨r, w2, hA, hf⟩ := bd2_ex hf
  obtain ⟨r2, σ2, hB, hf⟩ := bd2_ex hf
  split at hf
  · cases some_ex hf
    exact hL.ext (mC_X0_hidden_x _ _ _ _ _ _ _ _ _ hA)
  · cases hf
set_option maxHeartbeats 4000000 in
theorem lawArm_33_v {X : CX} {b L h x : Nat} {ys : Nat → Int32} {i : Int32} {w w1 : AH} {σ σ1 : SM} (hX : SX X b L ys) (hT : (xl X).stackTraces = false) (hL : LI h x w) (hf : lawArm_33 ys L i x w σ = some (w1, σ1))
    (kk : V X cL_law "FirstPollsLaw" 4 1000 (WB h w1 σ1) 2039 [some (.ref b), some (.ref x), some (.ref h), some (.int i)] []) : V X cL_law "FirstPollsLaw" 4 1000 (WB h w σ) 1567 [some (.ref b), some (.ref x), some (.ref h), some (.int i)] [] := by
  unfold lawArm_33 at hf
  obtain ⟨hb1, hf⟩ := ck_ex hf
  obtain ⟨hb2, hf⟩ := ck_ex hf
  obtain ⟨hb3, hf⟩ := ck_ex hf
  obtain ⟨hb4, hf⟩ := ck_ex hf
  obtain ⟨hb5, hf⟩ := ck_ex hf
  obtain ⟨r, w2, hA, hf⟩ := bd2_ex hf
  obtain ⟨r2, σ2, hB, hf⟩ := bd2_ex hf
  split at hf
  · rename_i hq
    subst hq
    cases some_ex hf
    refine V_aload_n dL_law_1567 rfl ?_
    refine V_aload_n dL_law_1568 rfl ?_
    refine V_iload_n dL_law_1569 rfl ?_
    refine V_iconst dL_law_1570 ckc_1 ?_
    refine V_iadd dL_law_1571 ?_
    refine V_sld hX hb1 rfl dL_law_1572 ?_
    refine V_aload_n dL_law_1573 rfl ?_
    refine V_iload_n dL_law_1574 rfl ?_
    refine V_iconst dL_law_1575 ckc_2 ?_
    refine V_iadd dL_law_1576 ?_
    refine V_sld hX hb2 rfl dL_law_1577 ?_
    refine V_aload_n dL_law_1578 rfl ?_
    refine V_iload_n dL_law_1579 rfl ?_
    refine V_iconst dL_law_1580 ckc_3 ?_
    refine V_iadd dL_law_1581 ?_
    refine V_sld hX hb3 rfl dL_law_1582 ?_
    refine V_aload_n dL_law_1583 rfl ?_
    refine V_iload_n dL_law_1584 rfl ?_
    refine V_iconst dL_law_1585 ckc_4 ?_
    refine V_iadd dL_law_1586 ?_
    refine V_sld hX hb4 rfl dL_law_1587 ?_
    refine V_aload_n dL_law_1588 rfl ?_
    refine V_iload_n dL_law_1589 rfl ?_
    refine V_iconst dL_law_1590 ckc_5 ?_
    refine V_iadd dL_law_1591 ?_
    refine V_sld hX hb5 rfl dL_law_1592 ?_
    refine V_cV (av := [.int (ys (i + (1 : Int32)).toNatClampNeg), .int (ys (i + (2 : Int32)).toNatClampNeg), .int (ys (i + (3 : Int32)).toNatClampNeg), .int (ys (i + (4 : Int32)).toNatClampNeg), .int (ys (i + (5 : Int32)).toNatClampNeg)]) (rest := []) (st' := [.int r]) (callA hL (mC_X0_hidden_ok _ _ _ _ _ _ _ _ _ _ _ hA)) lvc_33 (WB_kx hL) (by decide) rfl rfl (Nat.le_of_ble_eq_true rfl) dL_law_1593 rfl ?_
    refine V_aload_n dL_law_1596 rfl ?_
    refine V_aload_n dL_law_1597 rfl ?_
    refine V_iload_n dL_law_1598 rfl ?_
    refine V_iconst dL_law_1599 ckc_1 ?_
    refine V_iadd dL_law_1600 ?_
    refine V_sld hX hb1 rfl dL_law_1601 ?_
    refine V_aload_n dL_law_1602 rfl ?_
    refine V_iload_n dL_law_1603 rfl ?_
    refine V_iconst dL_law_1604 ckc_2 ?_
    refine V_iadd dL_law_1605 ?_
    refine V_sld hX hb2 rfl dL_law_1606 ?_
    refine V_aload_n dL_law_1607 rfl ?_
    refine V_iload_n dL_law_1608 rfl ?_
    refine V_iconst dL_law_1609 ckc_3 ?_
    refine V_iadd dL_law_1610 ?_
    refine V_sld hX hb3 rfl dL_law_1611 ?_
    refine V_aload_n dL_law_1612 rfl ?_
    refine V_iload_n dL_law_1613 rfl ?_
    refine V_iconst dL_law_1614 ckc_4 ?_
    refine V_iadd dL_law_1615 ?_
    refine V_sld hX hb4 rfl dL_law_1616 ?_
    refine V_aload_n dL_law_1617 rfl ?_
    refine V_iload_n dL_law_1618 rfl ?_
    refine V_iconst dL_law_1619 ckc_5 ?_
    refine V_iadd dL_law_1620 ?_
    refine V_sld hX hb5 rfl dL_law_1621 ?_
    refine V_cV (av := [.int (ys (i + (1 : Int32)).toNatClampNeg), .int (ys (i + (2 : Int32)).toNatClampNeg), .int (ys (i + (3 : Int32)).toNatClampNeg), .int (ys (i + (4 : Int32)).toNatClampNeg), .int (ys (i + (5 : Int32)).toNatClampNeg)]) (rest := [.int r]) (st' := [.int r, .int r]) (callB (mM_hidden_ok _ _ _ h _ _ _ _ _ _ _ _ hB)) lvm_33 WB_kh (by decide) rfl rfl (Nat.le_of_ble_eq_true rfl) dL_law_1622 rfl ?_
    refine V_icmp_eq (tgt := 2039) dL_law_1625 (by decide) (fun _ => kk) (fun hq => absurd rfl hq)
  · cases hf
def lawArm_34 (ys : Nat → Int32) (L : Nat) (i : Int32) (x : Nat) (w : AH) (σ : SM) : Option (AH × SM) :=
  ck (bnd (i + (1 : Int32)) L) <|
  ck (bnd (i + (2 : Int32)) L) <|
  ck (bnd (i + (3 : Int32)) L) <|
  ck (bnd (i + (4 : Int32)) L) <|
  bd2 (mC_X0_shares x (ys (i + (1 : Int32)).toNatClampNeg) (ys (i + (2 : Int32)).toNatClampNeg) (ys (i + (3 : Int32)).toNatClampNeg) (ys (i + (4 : Int32)).toNatClampNeg) w) fun r w1 =>
  bd2 (mM_shares (ys (i + (1 : Int32)).toNatClampNeg) (ys (i + (2 : Int32)).toNatClampNeg) (ys (i + (3 : Int32)).toNatClampNeg) (ys (i + (4 : Int32)).toNatClampNeg) σ) fun r2 σ1 =>
  if r = r2 then some (w1, σ1) else none
theorem lawArm_34_L {h : Nat} {ys : Nat → Int32} {L : Nat} {i : Int32} {x : Nat} {w w1 : AH} {σ σ1 : SM} (hL : LI h x w) (hf : lawArm_34 ys L i x w σ = some (w1, σ1)) : LI h x w1 := by
  unfold lawArm_34 at hf
  obtain ⟨hb1, hf⟩ := ck_ex hf
  obtain ⟨hb2, hf⟩ := ck_ex hf
  obtain ⟨hb3, hf⟩ := ck_ex hf
  obtain ⟨hb4, hf⟩ := ck_ex hf
  obtain ⟨r, w2, hA, hf⟩ := bd2_ex hf
  obtain ⟨r2, σ2, hB, hf⟩ := bd2_ex hf
  split at hf
  · cases some_ex hf
    exact hL.ext (mC_X0_shares_x _ _ _ _ _ _ _ _ hA)
  · cases hf
set_option maxHeartbeats 4000000 in
theorem lawArm_34_v {X : CX} {b L h x : Nat} {ys : Nat → Int32} {i : Int32} {w w1 : AH} {σ σ1 : SM} (hX : SX X b L ys) (hT : (xl X).stackTraces = false) (hL : LI h x w) (hf : lawArm_34 ys L i x w σ = some (w1, σ1))
    (kk : V X cL_law "FirstPollsLaw" 4 1000 (WB h w1 σ1) 2039 [some (.ref b), some (.ref x), some (.ref h), some (.int i)] []) : V X cL_law "FirstPollsLaw" 4 1000 (WB h w σ) 1630 [some (.ref b), some (.ref x), some (.ref h), some (.int i)] [] := by
  unfold lawArm_34 at hf
  obtain ⟨hb1, hf⟩ := ck_ex hf
  obtain ⟨hb2, hf⟩ := ck_ex hf
  obtain ⟨hb3, hf⟩ := ck_ex hf
  obtain ⟨hb4, hf⟩ := ck_ex hf
  obtain ⟨r, w2, hA, hf⟩ := bd2_ex hf
  obtain ⟨r2, σ2, hB, hf⟩ := bd2_ex hf
  split at hf
  · rename_i hq
    subst hq
    cases some_ex hf
    refine V_aload_n dL_law_1630 rfl ?_
    refine V_aload_n dL_law_1631 rfl ?_
    refine V_iload_n dL_law_1632 rfl ?_
    refine V_iconst dL_law_1633 ckc_1 ?_
    refine V_iadd dL_law_1634 ?_
    refine V_sld hX hb1 rfl dL_law_1635 ?_
    refine V_aload_n dL_law_1636 rfl ?_
    refine V_iload_n dL_law_1637 rfl ?_
    refine V_iconst dL_law_1638 ckc_2 ?_
    refine V_iadd dL_law_1639 ?_
    refine V_sld hX hb2 rfl dL_law_1640 ?_
    refine V_aload_n dL_law_1641 rfl ?_
    refine V_iload_n dL_law_1642 rfl ?_
    refine V_iconst dL_law_1643 ckc_3 ?_
    refine V_iadd dL_law_1644 ?_
    refine V_sld hX hb3 rfl dL_law_1645 ?_
    refine V_aload_n dL_law_1646 rfl ?_
    refine V_iload_n dL_law_1647 rfl ?_
    refine V_iconst dL_law_1648 ckc_4 ?_
    refine V_iadd dL_law_1649 ?_
    refine V_sld hX hb4 rfl dL_law_1650 ?_
    refine V_cV (av := [.int (ys (i + (1 : Int32)).toNatClampNeg), .int (ys (i + (2 : Int32)).toNatClampNeg), .int (ys (i + (3 : Int32)).toNatClampNeg), .int (ys (i + (4 : Int32)).toNatClampNeg)]) (rest := []) (st' := [.int r]) (callA hL (mC_X0_shares_ok _ _ _ _ _ _ _ _ _ _ hA)) lvc_34 (WB_kx hL) (by decide) rfl rfl (Nat.le_of_ble_eq_true rfl) dL_law_1651 rfl ?_
    refine V_aload_n dL_law_1654 rfl ?_
    refine V_aload_n dL_law_1655 rfl ?_
    refine V_iload_n dL_law_1656 rfl ?_
    refine V_iconst dL_law_1657 ckc_1 ?_
    refine V_iadd dL_law_1658 ?_
    refine V_sld hX hb1 rfl dL_law_1659 ?_
    refine V_aload_n dL_law_1660 rfl ?_
    refine V_iload_n dL_law_1661 rfl ?_
    refine V_iconst dL_law_1662 ckc_2 ?_
    refine V_iadd dL_law_1663 ?_
    refine V_sld hX hb2 rfl dL_law_1664 ?_
    refine V_aload_n dL_law_1665 rfl ?_
    refine V_iload_n dL_law_1666 rfl ?_
    refine V_iconst dL_law_1667 ckc_3 ?_
    refine V_iadd dL_law_1668 ?_
    refine V_sld hX hb3 rfl dL_law_1669 ?_
    refine V_aload_n dL_law_1670 rfl ?_
    refine V_iload_n dL_law_1671 rfl ?_
    refine V_iconst dL_law_1672 ckc_4 ?_
    refine V_iadd dL_law_1673 ?_
    refine V_sld hX hb4 rfl dL_law_1674 ?_
    refine V_cV (av := [.int (ys (i + (1 : Int32)).toNatClampNeg), .int (ys (i + (2 : Int32)).toNatClampNeg), .int (ys (i + (3 : Int32)).toNatClampNeg), .int (ys (i + (4 : Int32)).toNatClampNeg)]) (rest := [.int r]) (st' := [.int r, .int r]) (callB (mM_shares_ok _ _ _ h _ _ _ _ _ _ _ hB)) lvm_34 WB_kh (by decide) rfl rfl (Nat.le_of_ble_eq_true rfl) dL_law_1675 rfl ?_
    refine V_icmp_eq (tgt := 2039) dL_law_1678 (by decide) (fun _ => kk) (fun hq => absurd rfl hq)
  · cases hf
def lawArm_35 (ys : Nat → Int32) (L : Nat) (i : Int32) (x : Nat) (w : AH) (σ : SM) : Option (AH × SM) :=
  ck (bnd (i + (1 : Int32)) L) <|
  ck (bnd (i + (2 : Int32)) L) <|
  bd2 (mC_X0_terms x (ys (i + (1 : Int32)).toNatClampNeg) (ys (i + (2 : Int32)).toNatClampNeg) w) fun r w1 =>
  bd2 (mM_terms (ys (i + (1 : Int32)).toNatClampNeg) (ys (i + (2 : Int32)).toNatClampNeg) σ) fun r2 σ1 =>
  if r = r2 then some (w1, σ1) else none
theorem lawArm_35_L {h : Nat} {ys : Nat → Int32} {L : Nat} {i : Int32} {x : Nat} {w w1 : AH} {σ σ1 : SM} (hL : LI h x w) (hf : lawArm_35 ys L i x w σ = some (w1, σ1)) : LI h x w1 := by
  unfold lawArm_35 at hf
  obtain ⟨hb1, hf⟩ := ck_ex hf
  obtain ⟨hb2, hf⟩ := ck_ex hf
  obtain ⟨r, w2, hA, hf⟩ := bd2_ex hf
  obtain ⟨r2, σ2, hB, hf⟩ := bd2_ex hf
  split at hf
  · cases some_ex hf
    exact hL.ext (mC_X0_terms_x _ _ _ _ _ _ hA)
  · cases hf
set_option maxHeartbeats 4000000 in
theorem lawArm_35_v {X : CX} {b L h x : Nat} {ys : Nat → Int32} {i : Int32} {w w1 : AH} {σ σ1 : SM} (hX : SX X b L ys) (hT : (xl X).stackTraces = false) (hL : LI h x w) (hf : lawArm_35 ys L i x w σ = some (w1, σ1))
    (kk : V X cL_law "FirstPollsLaw" 4 1000 (WB h w1 σ1) 2039 [some (.ref b), some (.ref x), some (.ref h), some (.int i)] []) : V X cL_law "FirstPollsLaw" 4 1000 (WB h w σ) 1683 [some (.ref b), some (.ref x), some (.ref h), some (.int i)] [] := by
  unfold lawArm_35 at hf
  obtain ⟨hb1, hf⟩ := ck_ex hf
  obtain ⟨hb2, hf⟩ := ck_ex hf
  obtain ⟨r, w2, hA, hf⟩ := bd2_ex hf
  obtain ⟨r2, σ2, hB, hf⟩ := bd2_ex hf
  split at hf
  · rename_i hq
    subst hq
    cases some_ex hf
    refine V_aload_n dL_law_1683 rfl ?_
    refine V_aload_n dL_law_1684 rfl ?_
    refine V_iload_n dL_law_1685 rfl ?_
    refine V_iconst dL_law_1686 ckc_1 ?_
    refine V_iadd dL_law_1687 ?_
    refine V_sld hX hb1 rfl dL_law_1688 ?_
    refine V_aload_n dL_law_1689 rfl ?_
    refine V_iload_n dL_law_1690 rfl ?_
    refine V_iconst dL_law_1691 ckc_2 ?_
    refine V_iadd dL_law_1692 ?_
    refine V_sld hX hb2 rfl dL_law_1693 ?_
    refine V_cV (av := [.int (ys (i + (1 : Int32)).toNatClampNeg), .int (ys (i + (2 : Int32)).toNatClampNeg)]) (rest := []) (st' := [.int r]) (callA hL (mC_X0_terms_ok _ _ _ _ _ _ _ _ hA)) lvc_35 (WB_kx hL) (by decide) rfl rfl (Nat.le_of_ble_eq_true rfl) dL_law_1694 rfl ?_
    refine V_aload_n dL_law_1697 rfl ?_
    refine V_aload_n dL_law_1698 rfl ?_
    refine V_iload_n dL_law_1699 rfl ?_
    refine V_iconst dL_law_1700 ckc_1 ?_
    refine V_iadd dL_law_1701 ?_
    refine V_sld hX hb1 rfl dL_law_1702 ?_
    refine V_aload_n dL_law_1703 rfl ?_
    refine V_iload_n dL_law_1704 rfl ?_
    refine V_iconst dL_law_1705 ckc_2 ?_
    refine V_iadd dL_law_1706 ?_
    refine V_sld hX hb2 rfl dL_law_1707 ?_
    refine V_cV (av := [.int (ys (i + (1 : Int32)).toNatClampNeg), .int (ys (i + (2 : Int32)).toNatClampNeg)]) (rest := [.int r]) (st' := [.int r, .int r]) (callB (mM_terms_ok _ _ _ h _ _ _ _ _ hB)) lvm_35 WB_kh (by decide) rfl rfl (Nat.le_of_ble_eq_true rfl) dL_law_1708 rfl ?_
    refine V_icmp_eq (tgt := 2039) dL_law_1711 (by decide) (fun _ => kk) (fun hq => absurd rfl hq)
  · cases hf
def lawArm_36 (ys : Nat → Int32) (L : Nat) (i : Int32) (x : Nat) (w : AH) (σ : SM) : Option (AH × SM) :=
  ck (bnd (i + (1 : Int32)) L) <|
  ck (bnd (i + (2 : Int32)) L) <|
  ck (bnd (i + (3 : Int32)) L) <|
  bd2 (mC_X0_span x (ys (i + (1 : Int32)).toNatClampNeg) (ys (i + (2 : Int32)).toNatClampNeg) (ys (i + (3 : Int32)).toNatClampNeg) w) fun r w1 =>
  bd2 (mM_span (ys (i + (1 : Int32)).toNatClampNeg) (ys (i + (2 : Int32)).toNatClampNeg) (ys (i + (3 : Int32)).toNatClampNeg) σ) fun r2 σ1 =>
  if r = r2 then some (w1, σ1) else none
theorem lawArm_36_L {h : Nat} {ys : Nat → Int32} {L : Nat} {i : Int32} {x : Nat} {w w1 : AH} {σ σ1 : SM} (hL : LI h x w) (hf : lawArm_36 ys L i x w σ = some (w1, σ1)) : LI h x w1 := by
  unfold lawArm_36 at hf
  obtain ⟨hb1, hf⟩ := ck_ex hf
  obtain ⟨hb2, hf⟩ := ck_ex hf
  obtain ⟨hb3, hf⟩ := ck_ex hf
  obtain ⟨r, w2, hA, hf⟩ := bd2_ex hf
  obtain ⟨r2, σ2, hB, hf⟩ := bd2_ex hf
  split at hf
  · cases some_ex hf
    exact hL.ext (mC_X0_span_x _ _ _ _ _ _ _ hA)
  · cases hf
set_option maxHeartbeats 4000000 in
theorem lawArm_36_v {X : CX} {b L h x : Nat} {ys : Nat → Int32} {i : Int32} {w w1 : AH} {σ σ1 : SM} (hX : SX X b L ys) (hT : (xl X).stackTraces = false) (hL : LI h x w) (hf : lawArm_36 ys L i x w σ = some (w1, σ1))
    (kk : V X cL_law "FirstPollsLaw" 4 1000 (WB h w1 σ1) 2039 [some (.ref b), some (.ref x), some (.ref h), some (.int i)] []) : V X cL_law "FirstPollsLaw" 4 1000 (WB h w σ) 1716 [some (.ref b), some (.ref x), some (.ref h), some (.int i)] [] := by
  unfold lawArm_36 at hf
  obtain ⟨hb1, hf⟩ := ck_ex hf
  obtain ⟨hb2, hf⟩ := ck_ex hf
  obtain ⟨hb3, hf⟩ := ck_ex hf
  obtain ⟨r, w2, hA, hf⟩ := bd2_ex hf
  obtain ⟨r2, σ2, hB, hf⟩ := bd2_ex hf
  split at hf
  · rename_i hq
    subst hq
    cases some_ex hf
    refine V_aload_n dL_law_1716 rfl ?_
    refine V_aload_n dL_law_1717 rfl ?_
    refine V_iload_n dL_law_1718 rfl ?_
    refine V_iconst dL_law_1719 ckc_1 ?_
    refine V_iadd dL_law_1720 ?_
    refine V_sld hX hb1 rfl dL_law_1721 ?_
    refine V_aload_n dL_law_1722 rfl ?_
    refine V_iload_n dL_law_1723 rfl ?_
    refine V_iconst dL_law_1724 ckc_2 ?_
    refine V_iadd dL_law_1725 ?_
    refine V_sld hX hb2 rfl dL_law_1726 ?_
    refine V_aload_n dL_law_1727 rfl ?_
    refine V_iload_n dL_law_1728 rfl ?_
    refine V_iconst dL_law_1729 ckc_3 ?_
    refine V_iadd dL_law_1730 ?_
    refine V_sld hX hb3 rfl dL_law_1731 ?_
    refine V_cV (av := [.int (ys (i + (1 : Int32)).toNatClampNeg), .int (ys (i + (2 : Int32)).toNatClampNeg), .int (ys (i + (3 : Int32)).toNatClampNeg)]) (rest := []) (st' := [.int r]) (callA hL (mC_X0_span_ok _ _ _ _ _ _ _ _ _ hA)) lvc_36 (WB_kx hL) (by decide) rfl rfl (Nat.le_of_ble_eq_true rfl) dL_law_1732 rfl ?_
    refine V_aload_n dL_law_1735 rfl ?_
    refine V_aload_n dL_law_1736 rfl ?_
    refine V_iload_n dL_law_1737 rfl ?_
    refine V_iconst dL_law_1738 ckc_1 ?_
    refine V_iadd dL_law_1739 ?_
    refine V_sld hX hb1 rfl dL_law_1740 ?_
    refine V_aload_n dL_law_1741 rfl ?_
    refine V_iload_n dL_law_1742 rfl ?_
    refine V_iconst dL_law_1743 ckc_2 ?_
    refine V_iadd dL_law_1744 ?_
    refine V_sld hX hb2 rfl dL_law_1745 ?_
    refine V_aload_n dL_law_1746 rfl ?_
    refine V_iload_n dL_law_1747 rfl ?_
    refine V_iconst dL_law_1748 ckc_3 ?_
    refine V_iadd dL_law_1749 ?_
    refine V_sld hX hb3 rfl dL_law_1750 ?_
    refine V_cV (av := [.int (ys (i + (1 : Int32)).toNatClampNeg), .int (ys (i + (2 : Int32)).toNatClampNeg), .int (ys (i + (3 : Int32)).toNatClampNeg)]) (rest := [.int r]) (st' := [.int r, .int r]) (callB (mM_span_ok _ _ _ h _ _ _ _ _ _ hB)) lvm_36 WB_kh (by decide) rfl rfl (Nat.le_of_ble_eq_true rfl) dL_law_1751 rfl ?_
    refine V_icmp_eq (tgt := 2039) dL_law_1754 (by decide) (fun _ => kk) (fun hq => absurd rfl hq)
  · cases hf
def lawArm_37 (ys : Nat → Int32) (L : Nat) (i : Int32) (x : Nat) (w : AH) (σ : SM) : Option (AH × SM) :=
  ck (bnd (i + (1 : Int32)) L) <|
  ck (bnd (i + (2 : Int32)) L) <|
  bd2 (mC_X0_way x (ys (i + (1 : Int32)).toNatClampNeg) (ys (i + (2 : Int32)).toNatClampNeg) w) fun r w1 =>
  bd2 (mM_way (ys (i + (1 : Int32)).toNatClampNeg) (ys (i + (2 : Int32)).toNatClampNeg) σ) fun r2 σ1 =>
  if r = r2 then some (w1, σ1) else none
theorem lawArm_37_L {h : Nat} {ys : Nat → Int32} {L : Nat} {i : Int32} {x : Nat} {w w1 : AH} {σ σ1 : SM} (hL : LI h x w) (hf : lawArm_37 ys L i x w σ = some (w1, σ1)) : LI h x w1 := by
  unfold lawArm_37 at hf
  obtain ⟨hb1, hf⟩ := ck_ex hf
  obtain ⟨hb2, hf⟩ := ck_ex hf
  obtain ⟨r, w2, hA, hf⟩ := bd2_ex hf
  obtain ⟨r2, σ2, hB, hf⟩ := bd2_ex hf
  split at hf
  · cases some_ex hf
    exact hL.ext (mC_X0_way_x _ _ _ _ _ _ hA)
  · cases hf
set_option maxHeartbeats 4000000 in
theorem lawArm_37_v {X : CX} {b L h x : Nat} {ys : Nat → Int32} {i : Int32} {w w1 : AH} {σ σ1 : SM} (hX : SX X b L ys) (hT : (xl X).stackTraces = false) (hL : LI h x w) (hf : lawArm_37 ys L i x w σ = some (w1, σ1))
    (kk : V X cL_law "FirstPollsLaw" 4 1000 (WB h w1 σ1) 2039 [some (.ref b), some (.ref x), some (.ref h), some (.int i)] []) : V X cL_law "FirstPollsLaw" 4 1000 (WB h w σ) 1759 [some (.ref b), some (.ref x), some (.ref h), some (.int i)] [] := by
  unfold lawArm_37 at hf
  obtain ⟨hb1, hf⟩ := ck_ex hf
  obtain ⟨hb2, hf⟩ := ck_ex hf
  obtain ⟨r, w2, hA, hf⟩ := bd2_ex hf
  obtain ⟨r2, σ2, hB, hf⟩ := bd2_ex hf
  split at hf
  · rename_i hq
    subst hq
    cases some_ex hf
    refine V_aload_n dL_law_1759 rfl ?_
    refine V_aload_n dL_law_1760 rfl ?_
    refine V_iload_n dL_law_1761 rfl ?_
    refine V_iconst dL_law_1762 ckc_1 ?_
    refine V_iadd dL_law_1763 ?_
    refine V_sld hX hb1 rfl dL_law_1764 ?_
    refine V_aload_n dL_law_1765 rfl ?_
    refine V_iload_n dL_law_1766 rfl ?_
    refine V_iconst dL_law_1767 ckc_2 ?_
    refine V_iadd dL_law_1768 ?_
    refine V_sld hX hb2 rfl dL_law_1769 ?_
    refine V_cV (av := [.int (ys (i + (1 : Int32)).toNatClampNeg), .int (ys (i + (2 : Int32)).toNatClampNeg)]) (rest := []) (st' := [.int r]) (callA hL (mC_X0_way_ok _ _ _ _ _ _ _ _ hA)) lvc_37 (WB_kx hL) (by decide) rfl rfl (Nat.le_of_ble_eq_true rfl) dL_law_1770 rfl ?_
    refine V_aload_n dL_law_1773 rfl ?_
    refine V_aload_n dL_law_1774 rfl ?_
    refine V_iload_n dL_law_1775 rfl ?_
    refine V_iconst dL_law_1776 ckc_1 ?_
    refine V_iadd dL_law_1777 ?_
    refine V_sld hX hb1 rfl dL_law_1778 ?_
    refine V_aload_n dL_law_1779 rfl ?_
    refine V_iload_n dL_law_1780 rfl ?_
    refine V_iconst dL_law_1781 ckc_2 ?_
    refine V_iadd dL_law_1782 ?_
    refine V_sld hX hb2 rfl dL_law_1783 ?_
    refine V_cV (av := [.int (ys (i + (1 : Int32)).toNatClampNeg), .int (ys (i + (2 : Int32)).toNatClampNeg)]) (rest := [.int r]) (st' := [.int r, .int r]) (callB (mM_way_ok _ _ _ h _ _ _ _ _ hB)) lvm_37 WB_kh (by decide) rfl rfl (Nat.le_of_ble_eq_true rfl) dL_law_1784 rfl ?_
    refine V_icmp_eq (tgt := 2039) dL_law_1787 (by decide) (fun _ => kk) (fun hq => absurd rfl hq)
  · cases hf
def lawArm_38 (ys : Nat → Int32) (L : Nat) (i : Int32) (x : Nat) (w : AH) (σ : SM) : Option (AH × SM) :=
  ck (bnd (i + (1 : Int32)) L) <|
  ck (bnd (i + (2 : Int32)) L) <|
  bd1 (mC_X0_leg x (ys (i + (1 : Int32)).toNatClampNeg) (ys (i + (2 : Int32)).toNatClampNeg) w) fun r =>
  bd2 (mM_leg (ys (i + (1 : Int32)).toNatClampNeg) (ys (i + (2 : Int32)).toNatClampNeg) σ) fun r2 σ1 =>
  if r = r2 then some (w, σ1) else none
theorem lawArm_38_L {h : Nat} {ys : Nat → Int32} {L : Nat} {i : Int32} {x : Nat} {w w1 : AH} {σ σ1 : SM} (hL : LI h x w) (hf : lawArm_38 ys L i x w σ = some (w1, σ1)) : LI h x w1 := by
  unfold lawArm_38 at hf
  obtain ⟨hb1, hf⟩ := ck_ex hf
  obtain ⟨hb2, hf⟩ := ck_ex hf
  obtain ⟨r, hA, hf⟩ := bd1_ex hf
  obtain ⟨r2, σ2, hB, hf⟩ := bd2_ex hf
  split at hf
  · cases some_ex hf
    exact hL
  · cases hf
set_option maxHeartbeats 4000000 in
theorem lawArm_38_v {X : CX} {b L h x : Nat} {ys : Nat → Int32} {i : Int32} {w w1 : AH} {σ σ1 : SM} (hX : SX X b L ys) (hT : (xl X).stackTraces = false) (hL : LI h x w) (hf : lawArm_38 ys L i x w σ = some (w1, σ1))
    (kk : V X cL_law "FirstPollsLaw" 4 1000 (WB h w1 σ1) 2039 [some (.ref b), some (.ref x), some (.ref h), some (.int i)] []) : V X cL_law "FirstPollsLaw" 4 1000 (WB h w σ) 1792 [some (.ref b), some (.ref x), some (.ref h), some (.int i)] [] := by
  unfold lawArm_38 at hf
  obtain ⟨hb1, hf⟩ := ck_ex hf
  obtain ⟨hb2, hf⟩ := ck_ex hf
  obtain ⟨r, hA, hf⟩ := bd1_ex hf
  obtain ⟨r2, σ2, hB, hf⟩ := bd2_ex hf
  split at hf
  · rename_i hq
    subst hq
    cases some_ex hf
    refine V_aload_n dL_law_1792 rfl ?_
    refine V_aload_n dL_law_1793 rfl ?_
    refine V_iload_n dL_law_1794 rfl ?_
    refine V_iconst dL_law_1795 ckc_1 ?_
    refine V_iadd dL_law_1796 ?_
    refine V_sld hX hb1 rfl dL_law_1797 ?_
    refine V_aload_n dL_law_1798 rfl ?_
    refine V_iload_n dL_law_1799 rfl ?_
    refine V_iconst dL_law_1800 ckc_2 ?_
    refine V_iadd dL_law_1801 ?_
    refine V_sld hX hb2 rfl dL_law_1802 ?_
    refine V_cV (av := [.int (ys (i + (1 : Int32)).toNatClampNeg), .int (ys (i + (2 : Int32)).toNatClampNeg)]) (rest := []) (st' := [.int r]) (callA hL (mC_X0_leg_ok _ _ _ _ _ _ _ hA)) lvc_38 (WB_kx hL) (by decide) rfl rfl (Nat.le_of_ble_eq_true rfl) dL_law_1803 rfl ?_
    refine V_aload_n dL_law_1806 rfl ?_
    refine V_aload_n dL_law_1807 rfl ?_
    refine V_iload_n dL_law_1808 rfl ?_
    refine V_iconst dL_law_1809 ckc_1 ?_
    refine V_iadd dL_law_1810 ?_
    refine V_sld hX hb1 rfl dL_law_1811 ?_
    refine V_aload_n dL_law_1812 rfl ?_
    refine V_iload_n dL_law_1813 rfl ?_
    refine V_iconst dL_law_1814 ckc_2 ?_
    refine V_iadd dL_law_1815 ?_
    refine V_sld hX hb2 rfl dL_law_1816 ?_
    refine V_cV (av := [.int (ys (i + (1 : Int32)).toNatClampNeg), .int (ys (i + (2 : Int32)).toNatClampNeg)]) (rest := [.int r]) (st' := [.int r, .int r]) (callB (mM_leg_ok _ _ _ h _ _ _ _ _ hB)) lvm_38 WB_kh (by decide) rfl rfl (Nat.le_of_ble_eq_true rfl) dL_law_1817 rfl ?_
    refine V_icmp_eq (tgt := 2039) dL_law_1820 (by decide) (fun _ => kk) (fun hq => absurd rfl hq)
  · cases hf
def lawArm_39 (ys : Nat → Int32) (L : Nat) (i : Int32) (x : Nat) (w : AH) (σ : SM) : Option (AH × SM) :=
  ck (bnd (i + (1 : Int32)) L) <|
  ck (bnd (i + (2 : Int32)) L) <|
  ck (bnd (i + (3 : Int32)) L) <|
  ck (bnd (i + (4 : Int32)) L) <|
  bd1 (mC_X0_doors x (ys (i + (1 : Int32)).toNatClampNeg) (ys (i + (2 : Int32)).toNatClampNeg) (ys (i + (3 : Int32)).toNatClampNeg) (ys (i + (4 : Int32)).toNatClampNeg) w) fun r =>
  bd2 (mM_doors (ys (i + (1 : Int32)).toNatClampNeg) (ys (i + (2 : Int32)).toNatClampNeg) (ys (i + (3 : Int32)).toNatClampNeg) (ys (i + (4 : Int32)).toNatClampNeg) σ) fun r2 σ1 =>
  if r = r2 then some (w, σ1) else none
theorem lawArm_39_L {h : Nat} {ys : Nat → Int32} {L : Nat} {i : Int32} {x : Nat} {w w1 : AH} {σ σ1 : SM} (hL : LI h x w) (hf : lawArm_39 ys L i x w σ = some (w1, σ1)) : LI h x w1 := by
  unfold lawArm_39 at hf
  obtain ⟨hb1, hf⟩ := ck_ex hf
  obtain ⟨hb2, hf⟩ := ck_ex hf
  obtain ⟨hb3, hf⟩ := ck_ex hf
  obtain ⟨hb4, hf⟩ := ck_ex hf
  obtain ⟨r, hA, hf⟩ := bd1_ex hf
  obtain ⟨r2, σ2, hB, hf⟩ := bd2_ex hf
  split at hf
  · cases some_ex hf
    exact hL
  · cases hf
set_option maxHeartbeats 4000000 in
theorem lawArm_39_v {X : CX} {b L h x : Nat} {ys : Nat → Int32} {i : Int32} {w w1 : AH} {σ σ1 : SM} (hX : SX X b L ys) (hT : (xl X).stackTraces = false) (hL : LI h x w) (hf : lawArm_39 ys L i x w σ = some (w1, σ1))
    (kk : V X cL_law "FirstPollsLaw" 4 1000 (WB h w1 σ1) 2039 [some (.ref b), some (.ref x), some (.ref h), some (.int i)] []) : V X cL_law "FirstPollsLaw" 4 1000 (WB h w σ) 1825 [some (.ref b), some (.ref x), some (.ref h), some (.int i)] [] := by
  unfold lawArm_39 at hf
  obtain ⟨hb1, hf⟩ := ck_ex hf
  obtain ⟨hb2, hf⟩ := ck_ex hf
  obtain ⟨hb3, hf⟩ := ck_ex hf
  obtain ⟨hb4, hf⟩ := ck_ex hf
  obtain ⟨r, hA, hf⟩ := bd1_ex hf
  obtain ⟨r2, σ2, hB, hf⟩ := bd2_ex hf
  split at hf
  · rename_i hq
    subst hq
    cases some_ex hf
    refine V_aload_n dL_law_1825 rfl ?_
    refine V_aload_n dL_law_1826 rfl ?_
    refine V_iload_n dL_law_1827 rfl ?_
    refine V_iconst dL_law_1828 ckc_1 ?_
    refine V_iadd dL_law_1829 ?_
    refine V_sld hX hb1 rfl dL_law_1830 ?_
    refine V_aload_n dL_law_1831 rfl ?_
    refine V_iload_n dL_law_1832 rfl ?_
    refine V_iconst dL_law_1833 ckc_2 ?_
    refine V_iadd dL_law_1834 ?_
    refine V_sld hX hb2 rfl dL_law_1835 ?_
    refine V_aload_n dL_law_1836 rfl ?_
    refine V_iload_n dL_law_1837 rfl ?_
    refine V_iconst dL_law_1838 ckc_3 ?_
    refine V_iadd dL_law_1839 ?_
    refine V_sld hX hb3 rfl dL_law_1840 ?_
    refine V_aload_n dL_law_1841 rfl ?_
    refine V_iload_n dL_law_1842 rfl ?_
    refine V_iconst dL_law_1843 ckc_4 ?_
    refine V_iadd dL_law_1844 ?_
    refine V_sld hX hb4 rfl dL_law_1845 ?_
    refine V_cV (av := [.int (ys (i + (1 : Int32)).toNatClampNeg), .int (ys (i + (2 : Int32)).toNatClampNeg), .int (ys (i + (3 : Int32)).toNatClampNeg), .int (ys (i + (4 : Int32)).toNatClampNeg)]) (rest := []) (st' := [.int r]) (callA hL (mC_X0_doors_ok _ _ _ _ _ _ _ _ _ hA)) lvc_39 (WB_kx hL) (by decide) rfl rfl (Nat.le_of_ble_eq_true rfl) dL_law_1846 rfl ?_
    refine V_aload_n dL_law_1849 rfl ?_
    refine V_aload_n dL_law_1850 rfl ?_
    refine V_iload_n dL_law_1851 rfl ?_
    refine V_iconst dL_law_1852 ckc_1 ?_
    refine V_iadd dL_law_1853 ?_
    refine V_sld hX hb1 rfl dL_law_1854 ?_
    refine V_aload_n dL_law_1855 rfl ?_
    refine V_iload_n dL_law_1856 rfl ?_
    refine V_iconst dL_law_1857 ckc_2 ?_
    refine V_iadd dL_law_1858 ?_
    refine V_sld hX hb2 rfl dL_law_1859 ?_
    refine V_aload_n dL_law_1860 rfl ?_
    refine V_iload_n dL_law_1861 rfl ?_
    refine V_iconst dL_law_1862 ckc_3 ?_
    refine V_iadd dL_law_1863 ?_
    refine V_sld hX hb3 rfl dL_law_1864 ?_
    refine V_aload_n dL_law_1865 rfl ?_
    refine V_iload_n dL_law_1866 rfl ?_
    refine V_iconst dL_law_1867 ckc_4 ?_
    refine V_iadd dL_law_1868 ?_
    refine V_sld hX hb4 rfl dL_law_1869 ?_
    refine V_cV (av := [.int (ys (i + (1 : Int32)).toNatClampNeg), .int (ys (i + (2 : Int32)).toNatClampNeg), .int (ys (i + (3 : Int32)).toNatClampNeg), .int (ys (i + (4 : Int32)).toNatClampNeg)]) (rest := [.int r]) (st' := [.int r, .int r]) (callB (mM_doors_ok _ _ _ h _ _ _ _ _ _ _ hB)) lvm_39 WB_kh (by decide) rfl rfl (Nat.le_of_ble_eq_true rfl) dL_law_1870 rfl ?_
    refine V_icmp_eq (tgt := 2039) dL_law_1873 (by decide) (fun _ => kk) (fun hq => absurd rfl hq)
  · cases hf
def lawArm_40 (ys : Nat → Int32) (L : Nat) (i : Int32) (x : Nat) (w : AH) (σ : SM) : Option (AH × SM) :=
  ck (bnd (i + (1 : Int32)) L) <|
  bd2 (mC_X0_seal x (ys (i + (1 : Int32)).toNatClampNeg) w) fun r w1 =>
  bd2 (mM_seal (ys (i + (1 : Int32)).toNatClampNeg) σ) fun r2 σ1 =>
  if r = r2 then some (w1, σ1) else none
theorem lawArm_40_L {h : Nat} {ys : Nat → Int32} {L : Nat} {i : Int32} {x : Nat} {w w1 : AH} {σ σ1 : SM} (hL : LI h x w) (hf : lawArm_40 ys L i x w σ = some (w1, σ1)) : LI h x w1 := by
  unfold lawArm_40 at hf
  obtain ⟨hb1, hf⟩ := ck_ex hf
  obtain ⟨r, w2, hA, hf⟩ := bd2_ex hf
  obtain ⟨r2, σ2, hB, hf⟩ := bd2_ex hf
  split at hf
  · cases some_ex hf
    exact hL.ext (mC_X0_seal_x _ _ _ _ _ hA)
  · cases hf
set_option maxHeartbeats 4000000 in
theorem lawArm_40_v {X : CX} {b L h x : Nat} {ys : Nat → Int32} {i : Int32} {w w1 : AH} {σ σ1 : SM} (hX : SX X b L ys) (hT : (xl X).stackTraces = false) (hL : LI h x w) (hf : lawArm_40 ys L i x w σ = some (w1, σ1))
    (kk : V X cL_law "FirstPollsLaw" 4 1000 (WB h w1 σ1) 2039 [some (.ref b), some (.ref x), some (.ref h), some (.int i)] []) : V X cL_law "FirstPollsLaw" 4 1000 (WB h w σ) 1878 [some (.ref b), some (.ref x), some (.ref h), some (.int i)] [] := by
  unfold lawArm_40 at hf
  obtain ⟨hb1, hf⟩ := ck_ex hf
  obtain ⟨r, w2, hA, hf⟩ := bd2_ex hf
  obtain ⟨r2, σ2, hB, hf⟩ := bd2_ex hf
  split at hf
  · rename_i hq
    subst hq
    cases some_ex hf
    refine V_aload_n dL_law_1878 rfl ?_
    refine V_aload_n dL_law_1879 rfl ?_
    refine V_iload_n dL_law_1880 rfl ?_
    refine V_iconst dL_law_1881 ckc_1 ?_
    refine V_iadd dL_law_1882 ?_
    refine V_sld hX hb1 rfl dL_law_1883 ?_
    refine V_cV (av := [.int (ys (i + (1 : Int32)).toNatClampNeg)]) (rest := []) (st' := [.int r]) (callA hL (mC_X0_seal_ok _ _ _ _ _ _ _ hA)) lvc_40 (WB_kx hL) (by decide) rfl rfl (Nat.le_of_ble_eq_true rfl) dL_law_1884 rfl ?_
    refine V_aload_n dL_law_1887 rfl ?_
    refine V_aload_n dL_law_1888 rfl ?_
    refine V_iload_n dL_law_1889 rfl ?_
    refine V_iconst dL_law_1890 ckc_1 ?_
    refine V_iadd dL_law_1891 ?_
    refine V_sld hX hb1 rfl dL_law_1892 ?_
    refine V_cV (av := [.int (ys (i + (1 : Int32)).toNatClampNeg)]) (rest := [.int r]) (st' := [.int r, .int r]) (callB (mM_seal_ok _ _ _ h _ _ _ _ hB)) lvm_40 WB_kh (by decide) rfl rfl (Nat.le_of_ble_eq_true rfl) dL_law_1893 rfl ?_
    refine V_icmp_eq (tgt := 2039) dL_law_1896 (by decide) (fun _ => kk) (fun hq => absurd rfl hq)
  · cases hf
def lawArm_41 (ys : Nat → Int32) (L : Nat) (i : Int32) (x : Nat) (w : AH) (σ : SM) : Option (AH × SM) :=
  ck (bnd (i + (1 : Int32)) L) <|
  ck (bnd (i + (2 : Int32)) L) <|
  bd2 (mC_X0_alter x (ys (i + (1 : Int32)).toNatClampNeg) (ys (i + (2 : Int32)).toNatClampNeg) w) fun r w1 =>
  bd2 (mM_alter (ys (i + (1 : Int32)).toNatClampNeg) (ys (i + (2 : Int32)).toNatClampNeg) σ) fun r2 σ1 =>
  if r = r2 then some (w1, σ1) else none
theorem lawArm_41_L {h : Nat} {ys : Nat → Int32} {L : Nat} {i : Int32} {x : Nat} {w w1 : AH} {σ σ1 : SM} (hL : LI h x w) (hf : lawArm_41 ys L i x w σ = some (w1, σ1)) : LI h x w1 := by
  unfold lawArm_41 at hf
  obtain ⟨hb1, hf⟩ := ck_ex hf
  obtain ⟨hb2, hf⟩ := ck_ex hf
  obtain ⟨r, w2, hA, hf⟩ := bd2_ex hf
  obtain ⟨r2, σ2, hB, hf⟩ := bd2_ex hf
  split at hf
  · cases some_ex hf
    exact hL.ext (mC_X0_alter_x _ _ _ _ _ _ hA)
  · cases hf
set_option maxHeartbeats 4000000 in
theorem lawArm_41_v {X : CX} {b L h x : Nat} {ys : Nat → Int32} {i : Int32} {w w1 : AH} {σ σ1 : SM} (hX : SX X b L ys) (hT : (xl X).stackTraces = false) (hL : LI h x w) (hf : lawArm_41 ys L i x w σ = some (w1, σ1))
    (kk : V X cL_law "FirstPollsLaw" 4 1000 (WB h w1 σ1) 2039 [some (.ref b), some (.ref x), some (.ref h), some (.int i)] []) : V X cL_law "FirstPollsLaw" 4 1000 (WB h w σ) 1901 [some (.ref b), some (.ref x), some (.ref h), some (.int i)] [] := by
  unfold lawArm_41 at hf
  obtain ⟨hb1, hf⟩ := ck_ex hf
  obtain ⟨hb2, hf⟩ := ck_ex hf
  obtain ⟨r, w2, hA, hf⟩ := bd2_ex hf
  obtain ⟨r2, σ2, hB, hf⟩ := bd2_ex hf
  split at hf
  · rename_i hq
    subst hq
    cases some_ex hf
    refine V_aload_n dL_law_1901 rfl ?_
    refine V_aload_n dL_law_1902 rfl ?_
    refine V_iload_n dL_law_1903 rfl ?_
    refine V_iconst dL_law_1904 ckc_1 ?_
    refine V_iadd dL_law_1905 ?_
    refine V_sld hX hb1 rfl dL_law_1906 ?_
    refine V_aload_n dL_law_1907 rfl ?_
    refine V_iload_n dL_law_1908 rfl ?_
    refine V_iconst dL_law_1909 ckc_2 ?_
    refine V_iadd dL_law_1910 ?_
    refine V_sld hX hb2 rfl dL_law_1911 ?_
    refine V_cV (av := [.int (ys (i + (1 : Int32)).toNatClampNeg), .int (ys (i + (2 : Int32)).toNatClampNeg)]) (rest := []) (st' := [.int r]) (callA hL (mC_X0_alter_ok _ _ _ _ _ _ _ _ hA)) lvc_41 (WB_kx hL) (by decide) rfl rfl (Nat.le_of_ble_eq_true rfl) dL_law_1912 rfl ?_
    refine V_aload_n dL_law_1915 rfl ?_
    refine V_aload_n dL_law_1916 rfl ?_
    refine V_iload_n dL_law_1917 rfl ?_
    refine V_iconst dL_law_1918 ckc_1 ?_
    refine V_iadd dL_law_1919 ?_
    refine V_sld hX hb1 rfl dL_law_1920 ?_
    refine V_aload_n dL_law_1921 rfl ?_
    refine V_iload_n dL_law_1922 rfl ?_
    refine V_iconst dL_law_1923 ckc_2 ?_
    refine V_iadd dL_law_1924 ?_
    refine V_sld hX hb2 rfl dL_law_1925 ?_
    refine V_cV (av := [.int (ys (i + (1 : Int32)).toNatClampNeg), .int (ys (i + (2 : Int32)).toNatClampNeg)]) (rest := [.int r]) (st' := [.int r, .int r]) (callB (mM_alter_ok _ _ _ h _ _ _ _ _ hB)) lvm_41 WB_kh (by decide) rfl rfl (Nat.le_of_ble_eq_true rfl) dL_law_1926 rfl ?_
    refine V_icmp_eq (tgt := 2039) dL_law_1929 (by decide) (fun _ => kk) (fun hq => absurd rfl hq)
  · cases hf
def lawArm_42 (ys : Nat → Int32) (L : Nat) (i : Int32) (x : Nat) (w : AH) (σ : SM) : Option (AH × SM) :=
  ck (bnd (i + (1 : Int32)) L) <|
  bd2 (mC_X0_found x (ys (i + (1 : Int32)).toNatClampNeg) w) fun r w1 =>
  bd2 (mM_found (ys (i + (1 : Int32)).toNatClampNeg) σ) fun r2 σ1 =>
  if r = r2 then some (w1, σ1) else none
theorem lawArm_42_L {h : Nat} {ys : Nat → Int32} {L : Nat} {i : Int32} {x : Nat} {w w1 : AH} {σ σ1 : SM} (hL : LI h x w) (hf : lawArm_42 ys L i x w σ = some (w1, σ1)) : LI h x w1 := by
  unfold lawArm_42 at hf
  obtain ⟨hb1, hf⟩ := ck_ex hf
  obtain ⟨r, w2, hA, hf⟩ := bd2_ex hf
  obtain ⟨r2, σ2, hB, hf⟩ := bd2_ex hf
  split at hf
  · cases some_ex hf
    exact hL.ext (mC_X0_found_x _ _ _ _ _ hA)
  · cases hf
set_option maxHeartbeats 4000000 in
theorem lawArm_42_v {X : CX} {b L h x : Nat} {ys : Nat → Int32} {i : Int32} {w w1 : AH} {σ σ1 : SM} (hX : SX X b L ys) (hT : (xl X).stackTraces = false) (hL : LI h x w) (hf : lawArm_42 ys L i x w σ = some (w1, σ1))
    (kk : V X cL_law "FirstPollsLaw" 4 1000 (WB h w1 σ1) 2039 [some (.ref b), some (.ref x), some (.ref h), some (.int i)] []) : V X cL_law "FirstPollsLaw" 4 1000 (WB h w σ) 1934 [some (.ref b), some (.ref x), some (.ref h), some (.int i)] [] := by
  unfold lawArm_42 at hf
  obtain ⟨hb1, hf⟩ := ck_ex hf
  obtain ⟨r, w2, hA, hf⟩ := bd2_ex hf
  obtain ⟨r2, σ2, hB, hf⟩ := bd2_ex hf
  split at hf
  · rename_i hq
    subst hq
    cases some_ex hf
    refine V_aload_n dL_law_1934 rfl ?_
    refine V_aload_n dL_law_1935 rfl ?_
    refine V_iload_n dL_law_1936 rfl ?_
    refine V_iconst dL_law_1937 ckc_1 ?_
    refine V_iadd dL_law_1938 ?_
    refine V_sld hX hb1 rfl dL_law_1939 ?_
    refine V_cV (av := [.int (ys (i + (1 : Int32)).toNatClampNeg)]) (rest := []) (st' := [.int r]) (callA hL (mC_X0_found_ok _ _ _ _ _ _ _ hA)) lvc_42 (WB_kx hL) (by decide) rfl rfl (Nat.le_of_ble_eq_true rfl) dL_law_1940 rfl ?_
    refine V_aload_n dL_law_1943 rfl ?_
    refine V_aload_n dL_law_1944 rfl ?_
    refine V_iload_n dL_law_1945 rfl ?_
    refine V_iconst dL_law_1946 ckc_1 ?_
    refine V_iadd dL_law_1947 ?_
    refine V_sld hX hb1 rfl dL_law_1948 ?_
    refine V_cV (av := [.int (ys (i + (1 : Int32)).toNatClampNeg)]) (rest := [.int r]) (st' := [.int r, .int r]) (callB (mM_found_ok _ _ _ h _ _ _ _ hB)) lvm_42 WB_kh (by decide) rfl rfl (Nat.le_of_ble_eq_true rfl) dL_law_1949 rfl ?_
    refine V_icmp_eq (tgt := 2039) dL_law_1952 (by decide) (fun _ => kk) (fun hq => absurd rfl hq)
  · cases hf
def lawArm_43 (ys : Nat → Int32) (L : Nat) (i : Int32) (x : Nat) (w : AH) (σ : SM) : Option (AH × SM) :=
  ck (bnd (i + (1 : Int32)) L) <|
  bd2 (mC_X0_image x (ys (i + (1 : Int32)).toNatClampNeg) w) fun r w1 =>
  bd2 (mM_image (ys (i + (1 : Int32)).toNatClampNeg) σ) fun r2 σ1 =>
  if r = r2 then some (w1, σ1) else none
theorem lawArm_43_L {h : Nat} {ys : Nat → Int32} {L : Nat} {i : Int32} {x : Nat} {w w1 : AH} {σ σ1 : SM} (hL : LI h x w) (hf : lawArm_43 ys L i x w σ = some (w1, σ1)) : LI h x w1 := by
  unfold lawArm_43 at hf
  obtain ⟨hb1, hf⟩ := ck_ex hf
  obtain ⟨r, w2, hA, hf⟩ := bd2_ex hf
  obtain ⟨r2, σ2, hB, hf⟩ := bd2_ex hf
  split at hf
  · cases some_ex hf
    exact hL.ext (mC_X0_image_x _ _ _ _ _ hA)
  · cases hf
set_option maxHeartbeats 4000000 in
theorem lawArm_43_v {X : CX} {b L h x : Nat} {ys : Nat → Int32} {i : Int32} {w w1 : AH} {σ σ1 : SM} (hX : SX X b L ys) (hT : (xl X).stackTraces = false) (hL : LI h x w) (hf : lawArm_43 ys L i x w σ = some (w1, σ1))
    (kk : V X cL_law "FirstPollsLaw" 4 1000 (WB h w1 σ1) 2039 [some (.ref b), some (.ref x), some (.ref h), some (.int i)] []) : V X cL_law "FirstPollsLaw" 4 1000 (WB h w σ) 1957 [some (.ref b), some (.ref x), some (.ref h), some (.int i)] [] := by
  unfold lawArm_43 at hf
  obtain ⟨hb1, hf⟩ := ck_ex hf
  obtain ⟨r, w2, hA, hf⟩ := bd2_ex hf
  obtain ⟨r2, σ2, hB, hf⟩ := bd2_ex hf
  split at hf
  · rename_i hq
    subst hq
    cases some_ex hf
    refine V_aload_n dL_law_1957 rfl ?_
    refine V_aload_n dL_law_1958 rfl ?_
    refine V_iload_n dL_law_1959 rfl ?_
    refine V_iconst dL_law_1960 ckc_1 ?_
    refine V_iadd dL_law_1961 ?_
    refine V_sld hX hb1 rfl dL_law_1962 ?_
    refine V_cV (av := [.int (ys (i + (1 : Int32)).toNatClampNeg)]) (rest := []) (st' := [.int r]) (callA hL (mC_X0_image_ok _ _ _ _ _ _ _ hA)) lvc_43 (WB_kx hL) (by decide) rfl rfl (Nat.le_of_ble_eq_true rfl) dL_law_1963 rfl ?_
    refine V_aload_n dL_law_1966 rfl ?_
    refine V_aload_n dL_law_1967 rfl ?_
    refine V_iload_n dL_law_1968 rfl ?_
    refine V_iconst dL_law_1969 ckc_1 ?_
    refine V_iadd dL_law_1970 ?_
    refine V_sld hX hb1 rfl dL_law_1971 ?_
    refine V_cV (av := [.int (ys (i + (1 : Int32)).toNatClampNeg)]) (rest := [.int r]) (st' := [.int r, .int r]) (callB (mM_image_ok _ _ _ h _ _ _ _ hB)) lvm_43 WB_kh (by decide) rfl rfl (Nat.le_of_ble_eq_true rfl) dL_law_1972 rfl ?_
    refine V_icmp_eq (tgt := 2039) dL_law_1975 (by decide) (fun _ => kk) (fun hq => absurd rfl hq)
  · cases hf
def lawArm_44 (ys : Nat → Int32) (L : Nat) (i : Int32) (x : Nat) (w : AH) (σ : SM) : Option (AH × SM) :=
  ck (bnd (i + (1 : Int32)) L) <|
  bd2 (mC_X0_back x (ys (i + (1 : Int32)).toNatClampNeg) w) fun r w1 =>
  bd2 (mM_back (ys (i + (1 : Int32)).toNatClampNeg) σ) fun r2 σ1 =>
  if r = r2 then some (w1, σ1) else none
theorem lawArm_44_L {h : Nat} {ys : Nat → Int32} {L : Nat} {i : Int32} {x : Nat} {w w1 : AH} {σ σ1 : SM} (hL : LI h x w) (hf : lawArm_44 ys L i x w σ = some (w1, σ1)) : LI h x w1 := by
  unfold lawArm_44 at hf
  obtain ⟨hb1, hf⟩ := ck_ex hf
  obtain ⟨r, w2, hA, hf⟩ := bd2_ex hf
  obtain ⟨r2, σ2, hB, hf⟩ := bd2_ex hf
  split at hf
  · cases some_ex hf
    exact hL.ext (mC_X0_back_x _ _ _ _ _ hA)
  · cases hf
set_option maxHeartbeats 4000000 in
theorem lawArm_44_v {X : CX} {b L h x : Nat} {ys : Nat → Int32} {i : Int32} {w w1 : AH} {σ σ1 : SM} (hX : SX X b L ys) (hT : (xl X).stackTraces = false) (hL : LI h x w) (hf : lawArm_44 ys L i x w σ = some (w1, σ1))
    (kk : V X cL_law "FirstPollsLaw" 4 1000 (WB h w1 σ1) 2039 [some (.ref b), some (.ref x), some (.ref h), some (.int i)] []) : V X cL_law "FirstPollsLaw" 4 1000 (WB h w σ) 1980 [some (.ref b), some (.ref x), some (.ref h), some (.int i)] [] := by
  unfold lawArm_44 at hf
  obtain ⟨hb1, hf⟩ := ck_ex hf
  obtain ⟨r, w2, hA, hf⟩ := bd2_ex hf
  obtain ⟨r2, σ2, hB, hf⟩ := bd2_ex hf
  split at hf
  · rename_i hq
    subst hq
    cases some_ex hf
    refine V_aload_n dL_law_1980 rfl ?_
    refine V_aload_n dL_law_1981 rfl ?_
    refine V_iload_n dL_law_1982 rfl ?_
    refine V_iconst dL_law_1983 ckc_1 ?_
    refine V_iadd dL_law_1984 ?_
    refine V_sld hX hb1 rfl dL_law_1985 ?_
    refine V_cV (av := [.int (ys (i + (1 : Int32)).toNatClampNeg)]) (rest := []) (st' := [.int r]) (callA hL (mC_X0_back_ok _ _ _ _ _ _ _ hA)) lvc_44 (WB_kx hL) (by decide) rfl rfl (Nat.le_of_ble_eq_true rfl) dL_law_1986 rfl ?_
    refine V_aload_n dL_law_1989 rfl ?_
    refine V_aload_n dL_law_1990 rfl ?_
    refine V_iload_n dL_law_1991 rfl ?_
    refine V_iconst dL_law_1992 ckc_1 ?_
    refine V_iadd dL_law_1993 ?_
    refine V_sld hX hb1 rfl dL_law_1994 ?_
    refine V_cV (av := [.int (ys (i + (1 : Int32)).toNatClampNeg)]) (rest := [.int r]) (st' := [.int r, .int r]) (callB (mM_back_ok _ _ _ h _ _ _ _ hB)) lvm_44 WB_kh (by decide) rfl rfl (Nat.le_of_ble_eq_true rfl) dL_law_1995 rfl ?_
    refine V_icmp_eq (tgt := 2039) dL_law_1998 (by decide) (fun _ => kk) (fun hq => absurd rfl hq)
  · cases hf
def lawArm_45 (ys : Nat → Int32) (L : Nat) (i : Int32) (x : Nat) (w : AH) (σ : SM) : Option (AH × SM) :=
  ck (bnd (i + (1 : Int32)) L) <|
  bd1 (mC_X0_all x (ys (i + (1 : Int32)).toNatClampNeg) w) fun r =>
  bd2 (mM_all (ys (i + (1 : Int32)).toNatClampNeg) σ) fun r2 σ1 =>
  if r = r2 then some (w, σ1) else none
theorem lawArm_45_L {h : Nat} {ys : Nat → Int32} {L : Nat} {i : Int32} {x : Nat} {w w1 : AH} {σ σ1 : SM} (hL : LI h x w) (hf : lawArm_45 ys L i x w σ = some (w1, σ1)) : LI h x w1 := by
  unfold lawArm_45 at hf
  obtain ⟨hb1, hf⟩ := ck_ex hf
  obtain ⟨r, hA, hf⟩ := bd1_ex hf
  obtain ⟨r2, σ2, hB, hf⟩ := bd2_ex hf
  split at hf
  · cases some_ex hf
    exact hL
  · cases hf
set_option maxHeartbeats 4000000 in
theorem lawArm_45_v {X : CX} {b L h x : Nat} {ys : Nat → Int32} {i : Int32} {w w1 : AH} {σ σ1 : SM} (hX : SX X b L ys) (hT : (xl X).stackTraces = false) (hL : LI h x w) (hf : lawArm_45 ys L i x w σ = some (w1, σ1))
    (kk : V X cL_law "FirstPollsLaw" 4 1000 (WB h w1 σ1) 2039 [some (.ref b), some (.ref x), some (.ref h), some (.int i)] []) : V X cL_law "FirstPollsLaw" 4 1000 (WB h w σ) 2003 [some (.ref b), some (.ref x), some (.ref h), some (.int i)] [] := by
  unfold lawArm_45 at hf
  obtain ⟨hb1, hf⟩ := ck_ex hf
  obtain ⟨r, hA, hf⟩ := bd1_ex hf
  obtain ⟨r2, σ2, hB, hf⟩ := bd2_ex hf
  split at hf
  · rename_i hq
    subst hq
    cases some_ex hf
    refine V_aload_n dL_law_2003 rfl ?_
    refine V_aload_n dL_law_2004 rfl ?_
    refine V_iload_n dL_law_2005 rfl ?_
    refine V_iconst dL_law_2006 ckc_1 ?_
    refine V_iadd dL_law_2007 ?_
    refine V_sld hX hb1 rfl dL_law_2008 ?_
    refine V_cV (av := [.int (ys (i + (1 : Int32)).toNatClampNeg)]) (rest := []) (st' := [.int r]) (callA hL (mC_X0_all_ok _ _ _ _ _ _ hA)) lvc_45 (WB_kx hL) (by decide) rfl rfl (Nat.le_of_ble_eq_true rfl) dL_law_2009 rfl ?_
    refine V_aload_n dL_law_2012 rfl ?_
    refine V_aload_n dL_law_2013 rfl ?_
    refine V_iload_n dL_law_2014 rfl ?_
    refine V_iconst dL_law_2015 ckc_1 ?_
    refine V_iadd dL_law_2016 ?_
    refine V_sld hX hb1 rfl dL_law_2017 ?_
    refine V_cV (av := [.int (ys (i + (1 : Int32)).toNatClampNeg)]) (rest := [.int r]) (st' := [.int r, .int r]) (callB (mM_all_ok _ _ _ h _ _ _ _ hB)) lvm_45 WB_kh (by decide) rfl rfl (Nat.le_of_ble_eq_true rfl) dL_law_2018 rfl ?_
    refine V_icmp_eq (tgt := 2039) dL_law_2021 (by decide) (fun _ => kk) (fun hq => absurd rfl hq)
  · cases hf
def lawArm_46 (ys : Nat → Int32) (L : Nat) (i : Int32) (x : Nat) (w : AH) (σ : SM) : Option (AH × SM) :=
  bd1 (mC_X0_status x w) fun r =>
  bd2 (mM_status σ) fun r2 σ1 =>
  if r = r2 then some (w, σ1) else none
theorem lawArm_46_L {h : Nat} {ys : Nat → Int32} {L : Nat} {i : Int32} {x : Nat} {w w1 : AH} {σ σ1 : SM} (hL : LI h x w) (hf : lawArm_46 ys L i x w σ = some (w1, σ1)) : LI h x w1 := by
  unfold lawArm_46 at hf
  obtain ⟨r, hA, hf⟩ := bd1_ex hf
  obtain ⟨r2, σ2, hB, hf⟩ := bd2_ex hf
  split at hf
  · cases some_ex hf
    exact hL
  · cases hf
set_option maxHeartbeats 4000000 in
theorem lawArm_46_v {X : CX} {b L h x : Nat} {ys : Nat → Int32} {i : Int32} {w w1 : AH} {σ σ1 : SM} (hX : SX X b L ys) (hT : (xl X).stackTraces = false) (hL : LI h x w) (hf : lawArm_46 ys L i x w σ = some (w1, σ1))
    (kk : V X cL_law "FirstPollsLaw" 4 1000 (WB h w1 σ1) 2039 [some (.ref b), some (.ref x), some (.ref h), some (.int i)] []) : V X cL_law "FirstPollsLaw" 4 1000 (WB h w σ) 2026 [some (.ref b), some (.ref x), some (.ref h), some (.int i)] [] := by
  unfold lawArm_46 at hf
  obtain ⟨r, hA, hf⟩ := bd1_ex hf
  obtain ⟨r2, σ2, hB, hf⟩ := bd2_ex hf
  split at hf
  · rename_i hq
    subst hq
    cases some_ex hf
    refine V_aload_n dL_law_2026 rfl ?_
    refine V_cV (av := []) (rest := []) (st' := [.int r]) (callA hL (mC_X0_status_ok _ _ _ _ _ hA)) lvc_46 (WB_kx hL) (by decide) rfl rfl (Nat.le_of_ble_eq_true rfl) dL_law_2027 rfl ?_
    refine V_aload_n dL_law_2030 rfl ?_
    refine V_cV (av := []) (rest := [.int r]) (st' := [.int r, .int r]) (callB (mM_status_ok _ _ _ h _ _ _ hB)) lvm_46 WB_kh (by decide) rfl rfl (Nat.le_of_ble_eq_true rfl) dL_law_2031 rfl ?_
    refine V_icmp_eq (tgt := 2039) dL_law_2034 (by decide) (fun _ => kk) (fun hq => absurd rfl hq)
  · cases hf
def lawStep (ys : Nat → Int32) (L : Nat) (i : Int32) (x : Nat) (w : AH) (σ : SM) : Option (AH × SM) :=
  ck (bnd i L) <|
  st1 (ys i.toNatClampNeg &&& (63 : Int32)) fun c =>
  if c = (0 : Int32) then lawArm_0 ys L i x w σ else
  if c = (1 : Int32) then lawArm_1 ys L i x w σ else
  if c = (2 : Int32) then lawArm_2 ys L i x w σ else
  if c = (3 : Int32) then lawArm_3 ys L i x w σ else
  if c = (4 : Int32) then lawArm_4 ys L i x w σ else
  if c = (5 : Int32) then lawArm_5 ys L i x w σ else
  if c = (6 : Int32) then lawArm_6 ys L i x w σ else
  if c = (7 : Int32) then lawArm_7 ys L i x w σ else
  if c = (8 : Int32) then lawArm_8 ys L i x w σ else
  if c = (9 : Int32) then lawArm_9 ys L i x w σ else
  if c = (10 : Int32) then lawArm_10 ys L i x w σ else
  if c = (11 : Int32) then lawArm_11 ys L i x w σ else
  if c = (12 : Int32) then lawArm_12 ys L i x w σ else
  if c = (13 : Int32) then lawArm_13 ys L i x w σ else
  if c = (14 : Int32) then lawArm_14 ys L i x w σ else
  if c = (15 : Int32) then lawArm_15 ys L i x w σ else
  if c = (16 : Int32) then lawArm_16 ys L i x w σ else
  if c = (17 : Int32) then lawArm_17 ys L i x w σ else
  if c = (18 : Int32) then lawArm_18 ys L i x w σ else
  if c = (19 : Int32) then lawArm_19 ys L i x w σ else
  if c = (20 : Int32) then lawArm_20 ys L i x w σ else
  if c = (21 : Int32) then lawArm_21 ys L i x w σ else
  if c = (22 : Int32) then lawArm_22 ys L i x w σ else
  if c = (23 : Int32) then lawArm_23 ys L i x w σ else
  if c = (24 : Int32) then lawArm_24 ys L i x w σ else
  if c = (25 : Int32) then lawArm_25 ys L i x w σ else
  if c = (26 : Int32) then lawArm_26 ys L i x w σ else
  if c = (27 : Int32) then lawArm_27 ys L i x w σ else
  if c = (28 : Int32) then lawArm_28 ys L i x w σ else
  if c = (29 : Int32) then lawArm_29 ys L i x w σ else
  if c = (30 : Int32) then lawArm_30 ys L i x w σ else
  if c = (31 : Int32) then lawArm_31 ys L i x w σ else
  if c = (32 : Int32) then lawArm_32 ys L i x w σ else
  if c = (33 : Int32) then lawArm_33 ys L i x w σ else
  if c = (34 : Int32) then lawArm_34 ys L i x w σ else
  if c = (35 : Int32) then lawArm_35 ys L i x w σ else
  if c = (36 : Int32) then lawArm_36 ys L i x w σ else
  if c = (37 : Int32) then lawArm_37 ys L i x w σ else
  if c = (38 : Int32) then lawArm_38 ys L i x w σ else
  if c = (39 : Int32) then lawArm_39 ys L i x w σ else
  if c = (40 : Int32) then lawArm_40 ys L i x w σ else
  if c = (41 : Int32) then lawArm_41 ys L i x w σ else
  if c = (42 : Int32) then lawArm_42 ys L i x w σ else
  if c = (43 : Int32) then lawArm_43 ys L i x w σ else
  if c = (44 : Int32) then lawArm_44 ys L i x w σ else
  if c = (45 : Int32) then lawArm_45 ys L i x w σ else
  if c = (46 : Int32) then lawArm_46 ys L i x w σ else
  some (w, σ)
theorem lawStep_L {h x L : Nat} {ys : Nat → Int32} {i : Int32} {w w1 : AH} {σ σ1 : SM} (hL : LI h x w) (hf : lawStep ys L i x w σ = some (w1, σ1)) : LI h x w1 := by
  unfold lawStep at hf
  obtain ⟨hb, hf⟩ := ck_ex hf
  obtain ⟨c, hc, hf⟩ := st1_ex hf
  by_cases hw0 : c = (0 : Int32)
  · exact lawArm_0_L hL (if_t hf hw0)
  replace hf := if_f hf hw0
  by_cases hw1 : c = (1 : Int32)
  · exact lawArm_1_L hL (if_t hf hw1)
  replace hf := if_f hf hw1
  by_cases hw2 : c = (2 : Int32)
  · exact lawArm_2_L hL (if_t hf hw2)
  replace hf := if_f hf hw2
  by_cases hw3 : c = (3 : Int32)
  · exact lawArm_3_L hL (if_t hf hw3)
  replace hf := if_f hf hw3
  by_cases hw4 : c = (4 : Int32)
  · exact lawArm_4_L hL (if_t hf hw4)
  replace hf := if_f hf hw4
  by_cases hw5 : c = (5 : Int32)
  · exact lawArm_5_L hL (if_t hf hw5)
  replace hf := if_f hf hw5
  by_cases hw6 : c = (6 : Int32)
  · exact lawArm_6_L hL (if_t hf hw6)
  replace hf := if_f hf hw6
  by_cases hw7 : c = (7 : Int32)
  · exact lawArm_7_L hL (if_t hf hw7)
  replace hf := if_f hf hw7
  by_cases hw8 : c = (8 : Int32)
  · exact lawArm_8_L hL (if_t hf hw8)
  replace hf := if_f hf hw8
  by_cases hw9 : c = (9 : Int32)
  · exact lawArm_9_L hL (if_t hf hw9)
  replace hf := if_f hf hw9
  by_cases hw10 : c = (10 : Int32)
  · exact lawArm_10_L hL (if_t hf hw10)
  replace hf := if_f hf hw10
  by_cases hw11 : c = (11 : Int32)
  · exact lawArm_11_L hL (if_t hf hw11)
  replace hf := if_f hf hw11
  by_cases hw12 : c = (12 : Int32)
  · exact lawArm_12_L hL (if_t hf hw12)
  replace hf := if_f hf hw12
  by_cases hw13 : c = (13 : Int32)
  · exact lawArm_13_L hL (if_t hf hw13)
  replace hf := if_f hf hw13
  by_cases hw14 : c = (14 : Int32)
  · exact lawArm_14_L hL (if_t hf hw14)
  replace hf := if_f hf hw14
  by_cases hw15 : c = (15 : Int32)
  · exact lawArm_15_L hL (if_t hf hw15)
  replace hf := if_f hf hw15
  by_cases hw16 : c = (16 : Int32)
  · exact lawArm_16_L hL (if_t hf hw16)
  replace hf := if_f hf hw16
  by_cases hw17 : c = (17 : Int32)
  · exact lawArm_17_L hL (if_t hf hw17)
  replace hf := if_f hf hw17
  by_cases hw18 : c = (18 : Int32)
  · exact lawArm_18_L hL (if_t hf hw18)
  replace hf := if_f hf hw18
  by_cases hw19 : c = (19 : Int32)
  · exact lawArm_19_L hL (if_t hf hw19)
  replace hf := if_f hf hw19
  by_cases hw20 : c = (20 : Int32)
  · exact lawArm_20_L hL (if_t hf hw20)
  replace hf := if_f hf hw20
  by_cases hw21 : c = (21 : Int32)
  · exact lawArm_21_L hL (if_t hf hw21)
  replace hf := if_f hf hw21
  by_cases hw22 : c = (22 : Int32)
  · exact lawArm_22_L hL (if_t hf hw22)
  replace hf := if_f hf hw22
  by_cases hw23 : c = (23 : Int32)
  · exact lawArm_23_L hL (if_t hf hw23)
  replace hf := if_f hf hw23
  by_cases hw24 : c = (24 : Int32)
  · exact lawArm_24_L hL (if_t hf hw24)
  replace hf := if_f hf hw24
  by_cases hw25 : c = (25 : Int32)
  · exact lawArm_25_L hL (if_t hf hw25)
  replace hf := if_f hf hw25
  by_cases hw26 : c = (26 : Int32)
  · exact lawArm_26_L hL (if_t hf hw26)
  replace hf := if_f hf hw26
  by_cases hw27 : c = (27 : Int32)
  · exact lawArm_27_L hL (if_t hf hw27)
  replace hf := if_f hf hw27
  by_cases hw28 : c = (28 : Int32)
  · exact lawArm_28_L hL (if_t hf hw28)
  replace hf := if_f hf hw28
  by_cases hw29 : c = (29 : Int32)
  · exact lawArm_29_L hL (if_t hf hw29)
  replace hf := if_f hf hw29
  by_cases hw30 : c = (30 : Int32)
  · exact lawArm_30_L hL (if_t hf hw30)
  replace hf := if_f hf hw30
  by_cases hw31 : c = (31 : Int32)
  · exact lawArm_31_L hL (if_t hf hw31)
  replace hf := if_f hf hw31
  by_cases hw32 : c = (32 : Int32)
  · exact lawArm_32_L hL (if_t hf hw32)
  replace hf := if_f hf hw32
  by_cases hw33 : c = (33 : Int32)
  · exact lawArm_33_L hL (if_t hf hw33)
  replace hf := if_f hf hw33
  by_cases hw34 : c = (34 : Int32)
  · exact lawArm_34_L hL (if_t hf hw34)
  replace hf := if_f hf hw34
  by_cases hw35 : c = (35 : Int32)
  · exact lawArm_35_L hL (if_t hf hw35)
  replace hf := if_f hf hw35
  by_cases hw36 : c = (36 : Int32)
  · exact lawArm_36_L hL (if_t hf hw36)
  replace hf := if_f hf hw36
  by_cases hw37 : c = (37 : Int32)
  · exact lawArm_37_L hL (if_t hf hw37)
  replace hf := if_f hf hw37
  by_cases hw38 : c = (38 : Int32)
  · exact lawArm_38_L hL (if_t hf hw38)
  replace hf := if_f hf hw38
  by_cases hw39 : c = (39 : Int32)
  · exact lawArm_39_L hL (if_t hf hw39)
  replace hf := if_f hf hw39
  by_cases hw40 : c = (40 : Int32)
  · exact lawArm_40_L hL (if_t hf hw40)
  replace hf := if_f hf hw40
  by_cases hw41 : c = (41 : Int32)
  · exact lawArm_41_L hL (if_t hf hw41)
  replace hf := if_f hf hw41
  by_cases hw42 : c = (42 : Int32)
  · exact lawArm_42_L hL (if_t hf hw42)
  replace hf := if_f hf hw42
  by_cases hw43 : c = (43 : Int32)
  · exact lawArm_43_L hL (if_t hf hw43)
  replace hf := if_f hf hw43
  by_cases hw44 : c = (44 : Int32)
  · exact lawArm_44_L hL (if_t hf hw44)
  replace hf := if_f hf hw44
  by_cases hw45 : c = (45 : Int32)
  · exact lawArm_45_L hL (if_t hf hw45)
  replace hf := if_f hf hw45
  by_cases hw46 : c = (46 : Int32)
  · exact lawArm_46_L hL (if_t hf hw46)
  replace hf := if_f hf hw46
  cases some_ex hf
  exact hL
set_option maxHeartbeats 4000000 in
theorem lawStep_v {X : CX} {b L h x : Nat} {ys : Nat → Int32} {i : Int32} {w w1 : AH} {σ σ1 : SM} (hX : SX X b L ys) (hT : (xl X).stackTraces = false) (hL : LI h x w) (hf : lawStep ys L i x w σ = some (w1, σ1)) (kk : V X cL_law "FirstPollsLaw" 4 1000 (WB h w1 σ1) 2039 [some (.ref b), some (.ref x), some (.ref h), some (.int i)] []) : V X cL_law "FirstPollsLaw" 4 1000 (WB h w σ) 27 [some (.ref b), some (.ref x), some (.ref h), some (.int i)] [] := by
  unfold lawStep at hf
  obtain ⟨hb, hf⟩ := ck_ex hf
  obtain ⟨c, hc, hf⟩ := st1_ex hf
  refine V_aload_n dL_law_27 rfl ?_
  refine V_iload_n dL_law_28 rfl ?_
  refine V_sld hX hb rfl dL_law_29 ?_
  refine V_bipush dL_law_30 ckb_63 ?_
  refine V_iand dL_law_32 ?_
  rw [hc]
  by_cases hw0 : c = (0 : Int32)
  · have hf := if_t hf hw0
    refine V_tableIn (off := 203) (tgt := 236) dL_law_33 (by rw [hw0]; decide) (by rw [hw0]; decide) (by rw [hw0]; rfl) (by decide) ?_
    exact lawArm_0_v hX hT hL hf kk
  replace hf := if_f hf hw0
  by_cases hw1 : c = (1 : Int32)
  · have hf := if_t hf hw1
    refine V_tableIn (off := 246) (tgt := 279) dL_law_33 (by rw [hw1]; decide) (by rw [hw1]; decide) (by rw [hw1]; rfl) (by decide) ?_
    exact lawArm_1_v hX hT hL hf kk
  replace hf := if_f hf hw1
  by_cases hw2 : c = (2 : Int32)
  · have hf := if_t hf hw2
    refine V_tableIn (off := 321) (tgt := 354) dL_law_33 (by rw [hw2]; decide) (by rw [hw2]; decide) (by rw [hw2]; rfl) (by decide) ?_
    exact lawArm_2_v hX hT hL hf kk
  replace hf := if_f hf hw2
  by_cases hw3 : c = (3 : Int32)
  · have hf := if_t hf hw3
    refine V_tableIn (off := 354) (tgt := 387) dL_law_33 (by rw [hw3]; decide) (by rw [hw3]; decide) (by rw [hw3]; rfl) (by decide) ?_
    exact lawArm_3_v hX hT hL hf kk
  replace hf := if_f hf hw3
  by_cases hw4 : c = (4 : Int32)
  · have hf := if_t hf hw4
    refine V_tableIn (off := 397) (tgt := 430) dL_law_33 (by rw [hw4]; decide) (by rw [hw4]; decide) (by rw [hw4]; rfl) (by decide) ?_
    exact lawArm_4_v hX hT hL hf kk
  replace hf := if_f hf hw4
  by_cases hw5 : c = (5 : Int32)
  · have hf := if_t hf hw5
    refine V_tableIn (off := 450) (tgt := 483) dL_law_33 (by rw [hw5]; decide) (by rw [hw5]; decide) (by rw [hw5]; rfl) (by decide) ?_
    exact lawArm_5_v hX hT hL hf kk
  replace hf := if_f hf hw5
  by_cases hw6 : c = (6 : Int32)
  · have hf := if_t hf hw6
    refine V_tableIn (off := 483) (tgt := 516) dL_law_33 (by rw [hw6]; decide) (by rw [hw6]; decide) (by rw [hw6]; rfl) (by decide) ?_
    exact lawArm_6_v hX hT hL hf kk
  replace hf := if_f hf hw6
  by_cases hw7 : c = (7 : Int32)
  · have hf := if_t hf hw7
    refine V_tableIn (off := 526) (tgt := 559) dL_law_33 (by rw [hw7]; decide) (by rw [hw7]; decide) (by rw [hw7]; rfl) (by decide) ?_
    exact lawArm_7_v hX hT hL hf kk
  replace hf := if_f hf hw7
  by_cases hw8 : c = (8 : Int32)
  · have hf := if_t hf hw8
    refine V_tableIn (off := 569) (tgt := 602) dL_law_33 (by rw [hw8]; decide) (by rw [hw8]; decide) (by rw [hw8]; rfl) (by decide) ?_
    exact lawArm_8_v hX hT hL hf kk
  replace hf := if_f hf hw8
  by_cases hw9 : c = (9 : Int32)
  · have hf := if_t hf hw9
    refine V_tableIn (off := 612) (tgt := 645) dL_law_33 (by rw [hw9]; decide) (by rw [hw9]; decide) (by rw [hw9]; rfl) (by decide) ?_
    exact lawArm_9_v hX hT hL hf kk
  replace hf := if_f hf hw9
  by_cases hw10 : c = (10 : Int32)
  · have hf := if_t hf hw10
    refine V_tableIn (off := 645) (tgt := 678) dL_law_33 (by rw [hw10]; decide) (by rw [hw10]; decide) (by rw [hw10]; rfl) (by decide) ?_
    exact lawArm_10_v hX hT hL hf kk
  replace hf := if_f hf hw10
  by_cases hw11 : c = (11 : Int32)
  · have hf := if_t hf hw11
    refine V_tableIn (off := 678) (tgt := 711) dL_law_33 (by rw [hw11]; decide) (by rw [hw11]; decide) (by rw [hw11]; rfl) (by decide) ?_
    exact lawArm_11_v hX hT hL hf kk
  replace hf := if_f hf hw11
  by_cases hw12 : c = (12 : Int32)
  · have hf := if_t hf hw12
    refine V_tableIn (off := 721) (tgt := 754) dL_law_33 (by rw [hw12]; decide) (by rw [hw12]; decide) (by rw [hw12]; rfl) (by decide) ?_
    exact lawArm_12_v hX hT hL hf kk
  replace hf := if_f hf hw12
  by_cases hw13 : c = (13 : Int32)
  · have hf := if_t hf hw13
    refine V_tableIn (off := 784) (tgt := 817) dL_law_33 (by rw [hw13]; decide) (by rw [hw13]; decide) (by rw [hw13]; rfl) (by decide) ?_
    exact lawArm_13_v hX hT hL hf kk
  replace hf := if_f hf hw13
  by_cases hw14 : c = (14 : Int32)
  · have hf := if_t hf hw14
    refine V_tableIn (off := 807) (tgt := 840) dL_law_33 (by rw [hw14]; decide) (by rw [hw14]; decide) (by rw [hw14]; rfl) (by decide) ?_
    exact lawArm_14_v hX hT hL hf kk
  replace hf := if_f hf hw14
  by_cases hw15 : c = (15 : Int32)
  · have hf := if_t hf hw15
    refine V_tableIn (off := 830) (tgt := 863) dL_law_33 (by rw [hw15]; decide) (by rw [hw15]; decide) (by rw [hw15]; rfl) (by decide) ?_
    exact lawArm_15_v hX hT hL hf kk
  replace hf := if_f hf hw15
  by_cases hw16 : c = (16 : Int32)
  · have hf := if_t hf hw16
    refine V_tableIn (off := 843) (tgt := 876) dL_law_33 (by rw [hw16]; decide) (by rw [hw16]; decide) (by rw [hw16]; rfl) (by decide) ?_
    exact lawArm_16_v hX hT hL hf kk
  replace hf := if_f hf hw16
  by_cases hw17 : c = (17 : Int32)
  · have hf := if_t hf hw17
    refine V_tableIn (off := 886) (tgt := 919) dL_law_33 (by rw [hw17]; decide) (by rw [hw17]; decide) (by rw [hw17]; rfl) (by decide) ?_
    exact lawArm_17_v hX hT hL hf kk
  replace hf := if_f hf hw17
  by_cases hw18 : c = (18 : Int32)
  · have hf := if_t hf hw18
    refine V_tableIn (off := 939) (tgt := 972) dL_law_33 (by rw [hw18]; decide) (by rw [hw18]; decide) (by rw [hw18]; rfl) (by decide) ?_
    exact lawArm_18_v hX hT hL hf kk
  replace hf := if_f hf hw18
  by_cases hw19 : c = (19 : Int32)
  · have hf := if_t hf hw19
    refine V_tableIn (off := 962) (tgt := 995) dL_law_33 (by rw [hw19]; decide) (by rw [hw19]; decide) (by rw [hw19]; rfl) (by decide) ?_
    exact lawArm_19_v hX hT hL hf kk
  replace hf := if_f hf hw19
  by_cases hw20 : c = (20 : Int32)
  · have hf := if_t hf hw20
    refine V_tableIn (off := 975) (tgt := 1008) dL_law_33 (by rw [hw20]; decide) (by rw [hw20]; decide) (by rw [hw20]; rfl) (by decide) ?_
    exact lawArm_20_v hX hT hL hf kk
  replace hf := if_f hf hw20
  by_cases hw21 : c = (21 : Int32)
  · have hf := if_t hf hw21
    refine V_tableIn (off := 1008) (tgt := 1041) dL_law_33 (by rw [hw21]; decide) (by rw [hw21]; decide) (by rw [hw21]; rfl) (by decide) ?_
    exact lawArm_21_v hX hT hL hf kk
  replace hf := if_f hf hw21
  by_cases hw22 : c = (22 : Int32)
  · have hf := if_t hf hw22
    refine V_tableIn (off := 1031) (tgt := 1064) dL_law_33 (by rw [hw22]; decide) (by rw [hw22]; decide) (by rw [hw22]; rfl) (by decide) ?_
    exact lawArm_22_v hX hT hL hf kk
  replace hf := if_f hf hw22
  by_cases hw23 : c = (23 : Int32)
  · have hf := if_t hf hw23
    refine V_tableIn (off := 1074) (tgt := 1107) dL_law_33 (by rw [hw23]; decide) (by rw [hw23]; decide) (by rw [hw23]; rfl) (by decide) ?_
    exact lawArm_23_v hX hT hL hf kk
  replace hf := if_f hf hw23
  by_cases hw24 : c = (24 : Int32)
  · have hf := if_t hf hw24
    refine V_tableIn (off := 1097) (tgt := 1130) dL_law_33 (by rw [hw24]; decide) (by rw [hw24]; decide) (by rw [hw24]; rfl) (by decide) ?_
    exact lawArm_24_v hX hT hL hf kk
  replace hf := if_f hf hw24
  by_cases hw25 : c = (25 : Int32)
  · have hf := if_t hf hw25
    refine V_tableIn (off := 1130) (tgt := 1163) dL_law_33 (by rw [hw25]; decide) (by rw [hw25]; decide) (by rw [hw25]; rfl) (by decide) ?_
    exact lawArm_25_v hX hT hL hf kk
  replace hf := if_f hf hw25
  by_cases hw26 : c = (26 : Int32)
  · have hf := if_t hf hw26
    refine V_tableIn (off := 1193) (tgt := 1226) dL_law_33 (by rw [hw26]; decide) (by rw [hw26]; decide) (by rw [hw26]; rfl) (by decide) ?_
    exact lawArm_26_v hX hT hL hf kk
  replace hf := if_f hf hw26
  by_cases hw27 : c = (27 : Int32)
  · have hf := if_t hf hw27
    refine V_tableIn (off := 1236) (tgt := 1269) dL_law_33 (by rw [hw27]; decide) (by rw [hw27]; decide) (by rw [hw27]; rfl) (by decide) ?_
    exact lawArm_27_v hX hT hL hf kk
  replace hf := if_f hf hw27
  by_cases hw28 : c = (28 : Int32)
  · have hf := if_t hf hw28
    refine V_tableIn (off := 1279) (tgt := 1312) dL_law_33 (by rw [hw28]; decide) (by rw [hw28]; decide) (by rw [hw28]; rfl) (by decide) ?_
    exact lawArm_28_v hX hT hL hf kk
  replace hf := if_f hf hw28
  by_cases hw29 : c = (29 : Int32)
  · have hf := if_t hf hw29
    refine V_tableIn (off := 1332) (tgt := 1365) dL_law_33 (by rw [hw29]; decide) (by rw [hw29]; decide) (by rw [hw29]; rfl) (by decide) ?_
    exact lawArm_29_v hX hT hL hf kk
  replace hf := if_f hf hw29
  by_cases hw30 : c = (30 : Int32)
  · have hf := if_t hf hw30
    refine V_tableIn (off := 1395) (tgt := 1428) dL_law_33 (by rw [hw30]; decide) (by rw [hw30]; decide) (by rw [hw30]; rfl) (by decide) ?_
    exact lawArm_30_v hX hT hL hf kk
  replace hf := if_f hf hw30
  by_cases hw31 : c = (31 : Int32)
  · have hf := if_t hf hw31
    refine V_tableIn (off := 1448) (tgt := 1481) dL_law_33 (by rw [hw31]; decide) (by rw [hw31]; decide) (by rw [hw31]; rfl) (by decide) ?_
    exact lawArm_31_v hX hT hL hf kk
  replace hf := if_f hf hw31
  by_cases hw32 : c = (32 : Int32)
  · have hf := if_t hf hw32
    refine V_tableIn (off := 1481) (tgt := 1514) dL_law_33 (by rw [hw32]; decide) (by rw [hw32]; decide) (by rw [hw32]; rfl) (by decide) ?_
    exact lawArm_32_v hX hT hL hf kk
  replace hf := if_f hf hw32
  by_cases hw33 : c = (33 : Int32)
  · have hf := if_t hf hw33
    refine V_tableIn (off := 1534) (tgt := 1567) dL_law_33 (by rw [hw33]; decide) (by rw [hw33]; decide) (by rw [hw33]; rfl) (by decide) ?_
    exact lawArm_33_v hX hT hL hf kk
  replace hf := if_f hf hw33
  by_cases hw34 : c = (34 : Int32)
  · have hf := if_t hf hw34
    refine V_tableIn (off := 1597) (tgt := 1630) dL_law_33 (by rw [hw34]; decide) (by rw [hw34]; decide) (by rw [hw34]; rfl) (by decide) ?_
    exact lawArm_34_v hX hT hL hf kk
  replace hf := if_f hf hw34
  by_cases hw35 : c = (35 : Int32)
  · have hf := if_t hf hw35
    refine V_tableIn (off := 1650) (tgt := 1683) dL_law_33 (by rw [hw35]; decide) (by rw [hw35]; decide) (by rw [hw35]; rfl) (by decide) ?_
    exact lawArm_35_v hX hT hL hf kk
  replace hf := if_f hf hw35
  by_cases hw36 : c = (36 : Int32)
  · have hf := if_t hf hw36
    refine V_tableIn (off := 1683) (tgt := 1716) dL_law_33 (by rw [hw36]; decide) (by rw [hw36]; decide) (by rw [hw36]; rfl) (by decide) ?_
    exact lawArm_36_v hX hT hL hf kk
  replace hf := if_f hf hw36
  by_cases hw37 : c = (37 : Int32)
  · have hf := if_t hf hw37
    refine V_tableIn (off := 1726) (tgt := 1759) dL_law_33 (by rw [hw37]; decide) (by rw [hw37]; decide) (by rw [hw37]; rfl) (by decide) ?_
    exact lawArm_37_v hX hT hL hf kk
  replace hf := if_f hf hw37
  by_cases hw38 : c = (38 : Int32)
  · have hf := if_t hf hw38
    refine V_tableIn (off := 1759) (tgt := 1792) dL_law_33 (by rw [hw38]; decide) (by rw [hw38]; decide) (by rw [hw38]; rfl) (by decide) ?_
    exact lawArm_38_v hX hT hL hf kk
  replace hf := if_f hf hw38
  by_cases hw39 : c = (39 : Int32)
  · have hf := if_t hf hw39
    refine V_tableIn (off := 1792) (tgt := 1825) dL_law_33 (by rw [hw39]; decide) (by rw [hw39]; decide) (by rw [hw39]; rfl) (by decide) ?_
    exact lawArm_39_v hX hT hL hf kk
  replace hf := if_f hf hw39
  by_cases hw40 : c = (40 : Int32)
  · have hf := if_t hf hw40
    refine V_tableIn (off := 1845) (tgt := 1878) dL_law_33 (by rw [hw40]; decide) (by rw [hw40]; decide) (by rw [hw40]; rfl) (by decide) ?_
    exact lawArm_40_v hX hT hL hf kk
  replace hf := if_f hf hw40
  by_cases hw41 : c = (41 : Int32)
  · have hf := if_t hf hw41
    refine V_tableIn (off := 1868) (tgt := 1901) dL_law_33 (by rw [hw41]; decide) (by rw [hw41]; decide) (by rw [hw41]; rfl) (by decide) ?_
    exact lawArm_41_v hX hT hL hf kk
  replace hf := if_f hf hw41
  by_cases hw42 : c = (42 : Int32)
  · have hf := if_t hf hw42
    refine V_tableIn (off := 1901) (tgt := 1934) dL_law_33 (by rw [hw42]; decide) (by rw [hw42]; decide) (by rw [hw42]; rfl) (by decide) ?_
    exact lawArm_42_v hX hT hL hf kk
  replace hf := if_f hf hw42
  by_cases hw43 : c = (43 : Int32)
  · have hf := if_t hf hw43
    refine V_tableIn (off := 1924) (tgt := 1957) dL_law_33 (by rw [hw43]; decide) (by rw [hw43]; decide) (by rw [hw43]; rfl) (by decide) ?_
    exact lawArm_43_v hX hT hL hf kk
  replace hf := if_f hf hw43
  by_cases hw44 : c = (44 : Int32)
  · have hf := if_t hf hw44
    refine V_tableIn (off := 1947) (tgt := 1980) dL_law_33 (by rw [hw44]; decide) (by rw [hw44]; decide) (by rw [hw44]; rfl) (by decide) ?_
    exact lawArm_44_v hX hT hL hf kk
  replace hf := if_f hf hw44
  by_cases hw45 : c = (45 : Int32)
  · have hf := if_t hf hw45
    refine V_tableIn (off := 1970) (tgt := 2003) dL_law_33 (by rw [hw45]; decide) (by rw [hw45]; decide) (by rw [hw45]; rfl) (by decide) ?_
    exact lawArm_45_v hX hT hL hf kk
  replace hf := if_f hf hw45
  by_cases hw46 : c = (46 : Int32)
  · have hf := if_t hf hw46
    refine V_tableIn (off := 1993) (tgt := 2026) dL_law_33 (by rw [hw46]; decide) (by rw [hw46]; decide) (by rw [hw46]; rfl) (by decide) ?_
    exact lawArm_46_v hX hT hL hf kk
  replace hf := if_f hf hw46
  have hw0' := lv_neT hw0 (show (0 : Int32).toInt = 0 from by decide)
  have hw1' := lv_neT hw1 (show (1 : Int32).toInt = 1 from by decide)
  have hw2' := lv_neT hw2 (show (2 : Int32).toInt = 2 from by decide)
  have hw3' := lv_neT hw3 (show (3 : Int32).toInt = 3 from by decide)
  have hw4' := lv_neT hw4 (show (4 : Int32).toInt = 4 from by decide)
  have hw5' := lv_neT hw5 (show (5 : Int32).toInt = 5 from by decide)
  have hw6' := lv_neT hw6 (show (6 : Int32).toInt = 6 from by decide)
  have hw7' := lv_neT hw7 (show (7 : Int32).toInt = 7 from by decide)
  have hw8' := lv_neT hw8 (show (8 : Int32).toInt = 8 from by decide)
  have hw9' := lv_neT hw9 (show (9 : Int32).toInt = 9 from by decide)
  have hw10' := lv_neT hw10 (show (10 : Int32).toInt = 10 from by decide)
  have hw11' := lv_neT hw11 (show (11 : Int32).toInt = 11 from by decide)
  have hw12' := lv_neT hw12 (show (12 : Int32).toInt = 12 from by decide)
  have hw13' := lv_neT hw13 (show (13 : Int32).toInt = 13 from by decide)
  have hw14' := lv_neT hw14 (show (14 : Int32).toInt = 14 from by decide)
  have hw15' := lv_neT hw15 (show (15 : Int32).toInt = 15 from by decide)
  have hw16' := lv_neT hw16 (show (16 : Int32).toInt = 16 from by decide)
  have hw17' := lv_neT hw17 (show (17 : Int32).toInt = 17 from by decide)
  have hw18' := lv_neT hw18 (show (18 : Int32).toInt = 18 from by decide)
  have hw19' := lv_neT hw19 (show (19 : Int32).toInt = 19 from by decide)
  have hw20' := lv_neT hw20 (show (20 : Int32).toInt = 20 from by decide)
  have hw21' := lv_neT hw21 (show (21 : Int32).toInt = 21 from by decide)
  have hw22' := lv_neT hw22 (show (22 : Int32).toInt = 22 from by decide)
  have hw23' := lv_neT hw23 (show (23 : Int32).toInt = 23 from by decide)
  have hw24' := lv_neT hw24 (show (24 : Int32).toInt = 24 from by decide)
  have hw25' := lv_neT hw25 (show (25 : Int32).toInt = 25 from by decide)
  have hw26' := lv_neT hw26 (show (26 : Int32).toInt = 26 from by decide)
  have hw27' := lv_neT hw27 (show (27 : Int32).toInt = 27 from by decide)
  have hw28' := lv_neT hw28 (show (28 : Int32).toInt = 28 from by decide)
  have hw29' := lv_neT hw29 (show (29 : Int32).toInt = 29 from by decide)
  have hw30' := lv_neT hw30 (show (30 : Int32).toInt = 30 from by decide)
  have hw31' := lv_neT hw31 (show (31 : Int32).toInt = 31 from by decide)
  have hw32' := lv_neT hw32 (show (32 : Int32).toInt = 32 from by decide)
  have hw33' := lv_neT hw33 (show (33 : Int32).toInt = 33 from by decide)
  have hw34' := lv_neT hw34 (show (34 : Int32).toInt = 34 from by decide)
  have hw35' := lv_neT hw35 (show (35 : Int32).toInt = 35 from by decide)
  have hw36' := lv_neT hw36 (show (36 : Int32).toInt = 36 from by decide)
  have hw37' := lv_neT hw37 (show (37 : Int32).toInt = 37 from by decide)
  have hw38' := lv_neT hw38 (show (38 : Int32).toInt = 38 from by decide)
  have hw39' := lv_neT hw39 (show (39 : Int32).toInt = 39 from by decide)
  have hw40' := lv_neT hw40 (show (40 : Int32).toInt = 40 from by decide)
  have hw41' := lv_neT hw41 (show (41 : Int32).toInt = 41 from by decide)
  have hw42' := lv_neT hw42 (show (42 : Int32).toInt = 42 from by decide)
  have hw43' := lv_neT hw43 (show (43 : Int32).toInt = 43 from by decide)
  have hw44' := lv_neT hw44 (show (44 : Int32).toInt = 44 from by decide)
  have hw45' := lv_neT hw45 (show (45 : Int32).toInt = 45 from by decide)
  have hw46' := lv_neT hw46 (show (46 : Int32).toInt = 46 from by decide)
  cases some_ex hf
  exact V_tableOut (tgt := 2039) dL_law_33 (by omega) (by decide) kk
def lawRun (ys : Nat → Int32) (L : Nat) (x : Nat) : Nat → Int32 → AH → SM → Option Unit
  | 0, _, _, _ => none
  | n + 1, i, w, σ => if Int32.ofNat L - (7 : Int32) < i then some () else bd2 (lawStep ys L i x w σ) fun w1 σ1 => lawRun ys L x n (i + (7 : Int32)) w1 σ1
theorem lawRun_v {X : CX} {b L h x : Nat} {ys : Nat → Int32} (hX : SX X b L ys) (hT : (xl X).stackTraces = false) (kk : ∀ (i : Int32) (w : AH) (σ : SM), LI h x w → V X cL_law "FirstPollsLaw" 4 1000 (WB h w σ) 2045 [some (.ref b), some (.ref x), some (.ref h), some (.int i)] []) : ∀ (n : Nat) (i : Int32) (w : AH) (σ : SM), LI h x w → lawRun ys L x n i w σ = some () → V X cL_law "FirstPollsLaw" 4 1000 (WB h w σ) 18 [some (.ref b), some (.ref x), some (.ref h), some (.int i)] []
  | 0, _, _, _, _, hf => by cases hf
  | n + 1, i, w, σ, hL, hf => by
    unfold lawRun at hf
    refine V_iload_n dL_law_18 rfl ?_
    refine V_aload_n dL_law_19 rfl ?_
    refine V_slen hX dL_law_20 ?_
    refine V_bipush dL_law_21 ckb_7 ?_
    refine V_isub dL_law_23 ?_
    refine V_icmp_gt (tgt := 2045) dL_law_24 (by decide) (fun hc => ?_) (fun hc => ?_)
    · exact kk i w σ hL
    · have hf := if_f hf hc
      obtain ⟨w1, σ1, h1, hf⟩ := bd2_ex hf
      refine lawStep_v hX hT hL h1 ?_
      refine V_inc (ls' := [some (.ref b), some (.ref x), some (.ref h), some (.int (i + (7 : Int32)))]) dL_law_2039 rfl ckc_7 (by decide) rfl ?_
      refine V_goto (tgt := 18) dL_law_2042 (by decide) ?_
      exact lawRun_v hX hT kk n (i + 7) w1 σ1 (lawStep_L hL h1) hf
