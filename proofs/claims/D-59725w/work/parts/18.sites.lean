/-! sites: calls, fields, classes, casts -/
set_option maxRecDepth 100000
theorem sX0_7 : SiV RX0 7 mX1_setParent 2 := ⟨rfl, by decide, lw_V q1866 q1867 q1868 q59 q1869, by decide, by decide, by decide +kernel⟩
theorem sX0_17 : SiV RX0 17 mX1_setAges 3 := ⟨rfl, by decide, lw_V q1908 q1909 q1910 q59 q1911, by decide, by decide, by decide +kernel⟩
theorem sX0_21 : SiV RX0 21 mX1_setAnswer 3 := ⟨rfl, by decide, lw_V q1915 q1916 q1917 q59 q1918, by decide, by decide, by decide +kernel⟩
theorem sX0_24 : SiV RX0 24 mX1_setReference 3 := ⟨rfl, by decide, lw_V q1926 q1927 q1928 q59 q1929, by decide, by decide, by decide +kernel⟩
theorem sX0_27 : SiV RX0 27 mX1_takeAway 1 := ⟨rfl, by decide, lw_V q1934 q1935 q1936 q59 q1937, by decide, by decide, by decide +kernel⟩
theorem sX0_33 : SiV RX0 33 mX1_solve 1 := ⟨rfl, by decide, lw_V q1959 q1960 q1961 q59 q1962, by decide, by decide, by decide +kernel⟩
theorem sX0_36 : SiV RX0 36 mX1_forget 1 := ⟨rfl, by decide, lw_V q1966 q1967 q1968 q59 q1969, by decide, by decide, by decide +kernel⟩
theorem sX0_39 : SiV RX0 39 mX1_pass 1 := ⟨rfl, by decide, lw_V q2013 q2014 q2015 q59 q2016, by decide, by decide, by decide +kernel⟩
theorem sX0_42 : SiV RX0 42 mX1_parentOf 1 := ⟨rfl, by decide, lw_V q2059 q2060 q2061 q59 q2062, by decide, by decide, by decide +kernel⟩
theorem sX0_45 : SiV RX0 45 mX1_depthOf 1 := ⟨rfl, by decide, lw_V q2066 q2067 q2068 q59 q2069, by decide, by decide, by decide +kernel⟩
theorem sX0_48 : SiV RX0 48 mX1_kindOf 1 := ⟨rfl, by decide, lw_V q2073 q2074 q2075 q59 q2076, by decide, by decide, by decide +kernel⟩
theorem sX0_51 : SiV RX0 51 mX1_valueOf 1 := ⟨rfl, by decide, lw_V q2080 q2081 q2082 q59 q2083, by decide, by decide, by decide +kernel⟩
theorem sX0_54 : SiV RX0 54 mX1_truthOf 1 := ⟨rfl, by decide, lw_V q2087 q2088 q2089 q59 q2090, by decide, by decide, by decide +kernel⟩
theorem sX0_57 : SiV RX0 57 mX1_rememberedOf 1 := ⟨rfl, by decide, lw_V q2094 q1844 q1845 q59 q1846, by decide, by decide, by decide +kernel⟩
theorem sX0_60 : SiV RX0 60 mX1_ticksLeftOf 1 := ⟨rfl, by decide, lw_V q2098 q1851 q1852 q59 q1853, by decide, by decide, by decide +kernel⟩
theorem sX0_63 : SiV RX0 63 mX1_referralLeft 1 := ⟨rfl, by decide, lw_V q2102 q921 q922 q59 q923, by decide, by decide, by decide +kernel⟩
theorem sX0_66 : SiV RX0 66 mX1_isOutOfDate 1 := ⟨rfl, by decide, lw_V q2106 q1855 q1856 q59 q1857, by decide, by decide, by decide +kernel⟩
theorem sX0_70 : SiV RX0 70 mX1_questionsTo 1 := ⟨rfl, by decide, lw_V q2110 q2111 q2112 q59 q2113, by decide, by decide, by decide +kernel⟩
theorem sX0_73 : SiV RX0 73 mX1_wouldSolve 1 := ⟨rfl, by decide, lw_V q2117 q2118 q2119 q59 q2120, by decide, by decide, by decide +kernel⟩
theorem sX0_76 : SiV RX0 76 mX1_costOf 1 := ⟨rfl, by decide, lw_V q2124 q2125 q2126 q59 q2127, by decide, by decide, by decide +kernel⟩
theorem sX0_79 : SiV RX0 79 mX1_ticksUntilTruth 1 := ⟨rfl, by decide, lw_V q2131 q2132 q2133 q59 q2134, by decide, by decide, by decide +kernel⟩
theorem sX0_82 : SiV RX0 82 mX1_append 1 := ⟨rfl, by decide, lw_V q2140 q2141 q2142 q59 q2143, by decide, by decide, by decide +kernel⟩
theorem sX0_85 : SiV RX0 85 mX1_runActs 0 := ⟨rfl, by decide, lw_V q2164 q2165 q2166 q59 q2167, by decide, by decide, by decide +kernel⟩
theorem sX0_89 : SiV RX0 89 mX1_undo 0 := ⟨rfl, by decide, lw_V q2177 q2178 q2179 q59 q2180, by decide, by decide, by decide +kernel⟩
theorem sX1_24 : SiS RX1 24 mX3_begun 0 := ⟨rfl, by decide, lw_S q122 q123 q61 q124, by decide, by decide, by decide +kernel⟩
theorem sX1_32 : SiI RX1 32 mX4_init 0 := ⟨rfl, by decide, rfl, lw_meth q162, q62, Or.inr ⟨_, q160⟩, q161, rfl, by decide, by decide, by decide +kernel⟩
theorem sX1_33 : SiI RX1 33 mX2_init 2 := ⟨rfl, by decide, rfl, lw_meth q324, q60, Or.inl q322, q323, rfl, by decide, by decide, by decide +kernel⟩
theorem sX1_42 : SiI RX1 42 mJ10_init 0 := ⟨rfl, by decide, rfl, lw_meth q355, q74, Or.inl q353, q354, rfl, by decide, by decide, by decide +kernel⟩
theorem sX1_49 : SiI RX1 49 mJ12_init 1 := ⟨rfl, by decide, rfl, lw_meth q381, q76, Or.inl q379, q380, rfl, by decide, by decide, by decide +kernel⟩
theorem sX1_166 : SiV RX1 166 mJ1_size 0 := ⟨rfl, by decide, lw_V q428 q429 q430 q64 q431, by decide, by decide, by decide +kernel⟩
theorem sX1_179 : SiV RX1 179 mJ4_peek 0 := ⟨rfl, by decide, lw_V q440 q441 q442 q67 q443, by decide, by decide, by decide +kernel⟩
theorem sX1_158 : SiV RX1 158 mX1_left 1 := ⟨rfl, by decide, lw_V q445 q447 qs1 q59 q448, by decide, by decide, by decide +kernel⟩
theorem sX1_195 : SiV RX1 195 mX2_asked 0 := ⟨rfl, by decide, lw_V q457 q458 q459 q60 q460, by decide, by decide, by decide +kernel⟩
theorem sX1_216 : SiV RX1 216 mJ12_length 0 := ⟨rfl, by decide, lw_V q473 q474 q475 q76 q476, by decide, by decide, by decide +kernel⟩
theorem sX1_223 : SiV RX1 223 mJ12_setLength 1 := ⟨rfl, by decide, lw_V q480 q481 q482 q76 q483, by decide, by decide, by decide +kernel⟩
theorem sX1_228 : SiI RX1 228 mX9_init 1 := ⟨rfl, by decide, rfl, lw_meth q772, q110, Or.inl q770, q771, rfl, by decide, by decide, by decide +kernel⟩
theorem sX1_231 : SiV RX1 231 mX9_read 0 := ⟨rfl, by decide, lw_V q790 q791 q792 q110 q793, by decide, by decide, by decide +kernel⟩
theorem sX1_262 : SiV RX1 262 mX1_remembered 0 := ⟨rfl, by decide, lw_V q910 q425 q426 q59 q427, by decide, by decide, by decide +kernel⟩
theorem sX1_264 : SiV RX1 264 mX1_ticksUntilForgetting 0 := ⟨rfl, by decide, lw_V q911 q437 q438 q59 q439, by decide, by decide, by decide +kernel⟩
theorem sX1_267 : SiS RX1 267 mX1_add 2 := ⟨rfl, by decide, lw_S q912 q913 q59 q914, by decide, by decide, by decide +kernel⟩
theorem sX1_146 : SiV RX1 146 mX3_depth 1 := ⟨rfl, by decide, lw_V q916 q917 q918 q61 q919, by decide, by decide, by decide +kernel⟩
theorem sX1_270 : SiV RX1 270 mX1_referralLeft 1 := ⟨rfl, by decide, lw_V q920 q921 q922 q59 q923, by decide, by decide, by decide +kernel⟩
theorem sX1_204 : SiV RX1 204 mX2_trial 0 := ⟨rfl, by decide, lw_V q1206 q1207 q1208 q60 q1209, by decide, by decide, by decide +kernel⟩
theorem sX1_118 : SiV RX1 118 mX2_solve 1 := ⟨rfl, by decide, lw_V q1725 q1726 q1727 q60 q1728, by decide, by decide, by decide +kernel⟩
theorem sX1_152 : SiV RX1 152 mX3_truth 1 := ⟨rfl, by decide, lw_V q1839 q1840 q1841 q61 q1842, by decide, by decide, by decide +kernel⟩
theorem sX1_273 : SiV RX1 273 mX1_rememberedOf 1 := ⟨rfl, by decide, lw_V q1843 q1844 q1845 q59 q1846, by decide, by decide, by decide +kernel⟩
theorem sX1_276 : SiV RX1 276 mX1_ticksLeftOf 1 := ⟨rfl, by decide, lw_V q1850 q1851 q1852 q59 q1853, by decide, by decide, by decide +kernel⟩
theorem sX1_279 : SiV RX1 279 mX1_isOutOfDate 1 := ⟨rfl, by decide, lw_V q1854 q1855 q1856 q59 q1857, by decide, by decide, by decide +kernel⟩
theorem sX1_99 : SiS RX1 99 mX1_checkZone 1 := ⟨rfl, by decide, lw_S q924 q925 q59 q926, by decide, by decide, by decide +kernel⟩
theorem sX1_126 : SiV RX1 126 mX4_of 2 := ⟨rfl, by decide, lw_V q946 q947 q948 q62 q949, by decide, by decide, by decide +kernel⟩
theorem sX1_80 : SiS RX1 80 mX1_checkIndex 2 := ⟨rfl, by decide, lw_S q927 q928 q59 q929, by decide, by decide, by decide +kernel⟩
theorem sX1_3 : SiS RX1 3 mX1_isWithin 3 := ⟨rfl, by decide, lw_S q930 q829 q59 q830, by decide, by decide, by decide +kernel⟩
theorem sX1_15 : SiI RX1 15 mJ15_init_2 0 := ⟨rfl, by decide, rfl, lw_meth q942, q80, Or.inl q940, q941, rfl, by decide, by decide, by decide +kernel⟩
theorem sX1_108 : SiS RX1 108 mX1_checkRiddle 1 := ⟨rfl, by decide, lw_S q1847 q1848 q59 q1849, by decide, by decide, by decide +kernel⟩
theorem sX1_185 : SiV RX1 185 mX3_reply 2 := ⟨rfl, by decide, lw_V q1858 q1832 q1833 q61 q1834, by decide, by decide, by decide +kernel⟩
theorem sX1_84 : SiS RX1 84 mX1_checkRange 3 := ⟨rfl, by decide, lw_S q1870 q1871 q59 q1872, by decide, by decide, by decide +kernel⟩
theorem sX1_88 : SiV RX1 88 mX1_save 0 := ⟨rfl, by decide, lw_V q1875 q1877 qs22 q59 q1878, by decide, by decide, by decide +kernel⟩
theorem sX1_9 : SiI RX1 9 mJ8_init 0 := ⟨rfl, by decide, rfl, lw_meth q266, q72, Or.inl q1874, q265, rfl, by decide, by decide, by decide +kernel⟩
theorem sX1_56 : SiV RX1 56 mJ10_size 0 := ⟨rfl, by decide, lw_V q1879 q1880 q1881 q74 q1882, by decide, by decide, by decide +kernel⟩
theorem sX1_60 : SiV RX1 60 mJ10_remove 1 := ⟨rfl, by decide, lw_V q1883 q1884 q1885 q74 q1886, by decide, by decide, by decide +kernel⟩
theorem sX1_64 : SiV RX1 64 mX2_copy_2 0 := ⟨rfl, by decide, lw_V q1896 q1897 q1898 q60 q1899, by decide, by decide, by decide +kernel⟩
theorem sX1_68 : SiV RX1 68 mJ10_add 1 := ⟨rfl, by decide, lw_V q1904 q845 q846 q74 q847, by decide, by decide, by decide +kernel⟩
theorem sX1_111 : SiV RX1 111 mX3_set 4 := ⟨rfl, by decide, lw_V q1919 q1920 q1921 q61 q1922, by decide, by decide, by decide +kernel⟩
theorem sX1_76 : SiS RX1 76 mX1_checkState 1 := ⟨rfl, by decide, lw_S q1938 q1939 q59 q1940, by decide, by decide, by decide +kernel⟩
theorem sX1_18 : SiI RX1 18 mJ37_init 0 := ⟨rfl, by decide, rfl, lw_meth q1952, q104, Or.inl q1950, q1951, rfl, by decide, by decide, by decide +kernel⟩
theorem sX1_130 : SiV RX1 130 mX4_forget 1 := ⟨rfl, by decide, lw_V q1970 q1971 q1972 q62 q1973, by decide, by decide, by decide +kernel⟩
theorem sX1_143 : SiV RX1 143 mX2_pass 1 := ⟨rfl, by decide, lw_V q2017 q2018 q2019 q60 q2020, by decide, by decide, by decide +kernel⟩
theorem sX1_207 : SiV RX1 207 mX1_truthOf 1 := ⟨rfl, by decide, lw_V q2135 q2088 q2089 q59 q2090, by decide, by decide, by decide +kernel⟩
theorem sX1_210 : SiS RX1 210 mJ30_max 2 := ⟨rfl, by decide, lw_S q2136 q520 q96 q521, by decide, by decide, by decide +kernel⟩
theorem sX1_219 : SiV RX1 219 mJ12_append_3 1 := ⟨rfl, by decide, lw_V q2144 q2145 q2146 q76 q2147, by decide, by decide, by decide +kernel⟩
theorem sX1_237 : SiV RX1 237 mJ10_iterator 0 := ⟨rfl, by decide, lw_V q2168 q1629 q2529 q74 q1631, by decide, by decide, by decide +kernel⟩
theorem sX1_241_19 : SiF RX1 241 RJ34 ⟨"java/util/Iterator", "hasNext", "()Z"⟩ mJ34_hasNext 0 := ⟨rfl, by decide, lw_app (lw_in _ [2170, 1536, 1538, 101] (by decide +kernel) (by decide +kernel)) (lw_meth q1540), List.mem_of_getElem? (i := 13) rfl, by decide, by decide, by decide +kernel⟩
theorem sX1_241_20 : SiF RX1 241 RJ35 ⟨"java/util/Iterator", "hasNext", "()Z"⟩ mJ35_hasNext 0 := ⟨rfl, by decide, lw_app (lw_in _ [2170, 1541, 1543, 102] (by decide +kernel) (by decide +kernel)) (lw_meth q1545), List.mem_of_getElem? (i := 14) rfl, by decide, by decide, by decide +kernel⟩
theorem sX1_241_15 : SiF RX1 241 RJ23 ⟨"java/util/Iterator", "hasNext", "()Z"⟩ mJ22_hasNext 0 := ⟨rfl, by decide, lw_app (lw_in _ [2170, 1550, 1552, 88] (by decide +kernel) (by decide +kernel)) (lw_meth q1554), List.mem_of_getElem? (i := 15) rfl, by decide, by decide, by decide +kernel⟩
theorem sX1_241_16 : SiF RX1 241 RJ24 ⟨"java/util/Iterator", "hasNext", "()Z"⟩ mJ22_hasNext 0 := ⟨rfl, by decide, lw_app (lw_in _ [2170, 1555, 1552, 88] (by decide +kernel) (by decide +kernel)) (lw_meth q1554), List.mem_of_getElem? (i := 16) rfl, by decide, by decide, by decide +kernel⟩
theorem sX1_246_19 : SiF RX1 246 RJ34 ⟨"java/util/Iterator", "next", "()Ljava/lang/Object;"⟩ mJ34_next 0 := ⟨rfl, by decide, lw_app (lw_in _ [2172, 1418, 1420, 101] (by decide +kernel) (by decide +kernel)) (lw_meth q1422), List.mem_of_getElem? (i := 9) rfl, by decide, by decide, by decide +kernel⟩
theorem sX1_246_20 : SiF RX1 246 RJ35 ⟨"java/util/Iterator", "next", "()Ljava/lang/Object;"⟩ mJ35_next 0 := ⟨rfl, by decide, lw_app (lw_in _ [2172, 1428, 1430, 102] (by decide +kernel) (by decide +kernel)) (lw_meth q1432), List.mem_of_getElem? (i := 10) rfl, by decide, by decide, by decide +kernel⟩
theorem sX1_246_15 : SiF RX1 246 RJ23 ⟨"java/util/Iterator", "next", "()Ljava/lang/Object;"⟩ mJ23_next 0 := ⟨rfl, by decide, lw_app (lw_in _ [2172, 1448, 1450, 89] (by decide +kernel) (by decide +kernel)) (lw_meth q1452), List.mem_of_getElem? (i := 11) rfl, by decide, by decide, by decide +kernel⟩
theorem sX1_246_16 : SiF RX1 246 RJ24 ⟨"java/util/Iterator", "next", "()Ljava/lang/Object;"⟩ mJ24_next 0 := ⟨rfl, by decide, lw_app (lw_in _ [2172, 1467, 1469, 90] (by decide +kernel) (by decide +kernel)) (lw_meth q1471), List.mem_of_getElem? (i := 12) rfl, by decide, by decide, by decide +kernel⟩
theorem sX1_72 : SiV RX1 72 mJ10_isEmpty 0 := ⟨rfl, by decide, lw_V q2181 q2182 q2183 q74 q2184, by decide, by decide, by decide +kernel⟩
theorem sX2_29 : SiV RX2 29 mX2_copy 1 := ⟨rfl, by decide, lw_V q1210 q1212 qs9 q60 q1213, by decide, by decide, by decide +kernel⟩
theorem sX2_32 : SiV RX2 32 mX4_copy 0 := ⟨rfl, by decide, lw_V q1215 q1216 q1217 q62 q1218, by decide, by decide, by decide +kernel⟩
theorem sX2_37 : SiI RX2 37 mX2_init 2 := ⟨rfl, by decide, rfl, lw_meth q324, q60, Or.inl q1724, q323, rfl, by decide, by decide, by decide +kernel⟩
theorem sX2_108 : SiV RX2 108 mX2_reply 1 := ⟨rfl, by decide, lw_V q1729 q1731 qs20 q60 q1732, by decide, by decide, by decide +kernel⟩
theorem sX2_54 : SiV RX2 54 mX4_of 2 := ⟨rfl, by decide, lw_V q1733 q947 q948 q62 q949, by decide, by decide, by decide +kernel⟩
theorem sX2_104 : SiV RX2 104 mX2_ask 1 := ⟨rfl, by decide, lw_V q1734 q1736 qs21 q60 q1737, by decide, by decide, by decide +kernel⟩
theorem sX2_50 : SiV RX2 50 mX3_way 1 := ⟨rfl, by decide, lw_V q1738 q1739 q1740 q61 q1741, by decide, by decide, by decide +kernel⟩
theorem sX2_61 : SiV RX2 61 mJ38_iterator 0 := ⟨rfl, by decide, lw_V q1788 q1370 q2525 q106 q1372, by decide, by decide, by decide +kernel⟩
theorem sX2_67_19 : SiF RX2 67 RJ34 ⟨"java/util/Iterator", "hasNext", "()Z"⟩ mJ34_hasNext 0 := ⟨rfl, by decide, lw_app (lw_in _ [1790, 1536, 1538, 101] (by decide +kernel) (by decide +kernel)) (lw_meth q1540), List.mem_of_getElem? (i := 13) rfl, by decide, by decide, by decide +kernel⟩
theorem sX2_67_20 : SiF RX2 67 RJ35 ⟨"java/util/Iterator", "hasNext", "()Z"⟩ mJ35_hasNext 0 := ⟨rfl, by decide, lw_app (lw_in _ [1790, 1541, 1543, 102] (by decide +kernel) (by decide +kernel)) (lw_meth q1545), List.mem_of_getElem? (i := 14) rfl, by decide, by decide, by decide +kernel⟩
theorem sX2_67_15 : SiF RX2 67 RJ23 ⟨"java/util/Iterator", "hasNext", "()Z"⟩ mJ22_hasNext 0 := ⟨rfl, by decide, lw_app (lw_in _ [1790, 1550, 1552, 88] (by decide +kernel) (by decide +kernel)) (lw_meth q1554), List.mem_of_getElem? (i := 15) rfl, by decide, by decide, by decide +kernel⟩
theorem sX2_67_16 : SiF RX2 67 RJ24 ⟨"java/util/Iterator", "hasNext", "()Z"⟩ mJ22_hasNext 0 := ⟨rfl, by decide, lw_app (lw_in _ [1790, 1555, 1552, 88] (by decide +kernel) (by decide +kernel)) (lw_meth q1554), List.mem_of_getElem? (i := 16) rfl, by decide, by decide, by decide +kernel⟩
theorem sX2_73_19 : SiF RX2 73 RJ34 ⟨"java/util/Iterator", "next", "()Ljava/lang/Object;"⟩ mJ34_next 0 := ⟨rfl, by decide, lw_app (lw_in _ [1792, 1418, 1420, 101] (by decide +kernel) (by decide +kernel)) (lw_meth q1422), List.mem_of_getElem? (i := 9) rfl, by decide, by decide, by decide +kernel⟩
theorem sX2_73_20 : SiF RX2 73 RJ35 ⟨"java/util/Iterator", "next", "()Ljava/lang/Object;"⟩ mJ35_next 0 := ⟨rfl, by decide, lw_app (lw_in _ [1792, 1428, 1430, 102] (by decide +kernel) (by decide +kernel)) (lw_meth q1432), List.mem_of_getElem? (i := 10) rfl, by decide, by decide, by decide +kernel⟩
theorem sX2_73_15 : SiF RX2 73 RJ23 ⟨"java/util/Iterator", "next", "()Ljava/lang/Object;"⟩ mJ23_next 0 := ⟨rfl, by decide, lw_app (lw_in _ [1792, 1448, 1450, 89] (by decide +kernel) (by decide +kernel)) (lw_meth q1452), List.mem_of_getElem? (i := 11) rfl, by decide, by decide, by decide +kernel⟩
theorem sX2_73_16 : SiF RX2 73 RJ24 ⟨"java/util/Iterator", "next", "()Ljava/lang/Object;"⟩ mJ24_next 0 := ⟨rfl, by decide, lw_app (lw_in _ [1792, 1467, 1469, 90] (by decide +kernel) (by decide +kernel)) (lw_meth q1471), List.mem_of_getElem? (i := 12) rfl, by decide, by decide, by decide +kernel⟩
theorem sX2_79 : SiV RX2 79 mJ27_intValue 0 := ⟨rfl, by decide, lw_V q1794 q1269 q1270 q93 q1271, by decide, by decide, by decide +kernel⟩
theorem sX2_87 : SiI RX2 87 mX7_init 2 := ⟨rfl, by decide, rfl, lw_meth q954, q105, Or.inl q1798, q953, rfl, by decide, by decide, by decide +kernel⟩
theorem sX2_93 : SiI RX2 93 mX8_init 4 := ⟨rfl, by decide, rfl, lw_meth q1801, q108, Or.inl q1799, q1800, rfl, by decide, by decide, by decide +kernel⟩
theorem sX2_96 : SiV RX2 96 mX4_remember 1 := ⟨rfl, by decide, lw_V q1825 q1826 q1827 q62 q1828, by decide, by decide, by decide +kernel⟩
theorem sX2_100 : SiV RX2 100 mX3_reply 2 := ⟨rfl, by decide, lw_V q1831 q1832 q1833 q61 q1834, by decide, by decide, by decide +kernel⟩
theorem sX2_23 : SiV RX2 23 mX3_copy 0 := ⟨rfl, by decide, lw_V q1900 q1901 q1902 q61 q1903, by decide, by decide, by decide +kernel⟩
theorem sX2_116 : SiV RX2 116 mX4_end 1 := ⟨rfl, by decide, lw_V q2021 q2022 q2023 q62 q2024, by decide, by decide, by decide +kernel⟩
theorem sX3_30 : SiI RX3 30 mX3_init 0 := ⟨rfl, by decide, rfl, lw_meth q129, q61, Or.inl q127, q128, rfl, by decide, by decide, by decide +kernel⟩
theorem sX3_33 : SiI RX3 33 mJ38_init 0 := ⟨rfl, by decide, rfl, lw_meth q1746, q106, Or.inl q1744, q1745, rfl, by decide, by decide, by decide +kernel⟩
theorem sX3_34 : SiS RX3 34 mJ27_valueOf 1 := ⟨rfl, by decide, lw_S q1757 q1758 q93 q1759, by decide, by decide, by decide +kernel⟩
theorem sX3_40 : SiV RX3 40 mJ38_add 1 := ⟨rfl, by decide, lw_V q1776 q1777 q1778 q106 q1779, by decide, by decide, by decide +kernel⟩
theorem sX3_48 : SiI RX3 48 mX7_init 2 := ⟨rfl, by decide, rfl, lw_meth q954, q105, Or.inl q1837, q953, rfl, by decide, by decide, by decide +kernel⟩
theorem sX3_51 : SiI RX3 51 mX8_init 4 := ⟨rfl, by decide, rfl, lw_meth q1801, q108, Or.inl q1838, q1800, rfl, by decide, by decide, by decide +kernel⟩
theorem sX4_9 : SiI RX4 9 mJ1_init 0 := ⟨rfl, by decide, rfl, lw_meth q168, q64, Or.inl q166, q167, rfl, by decide, by decide, by decide +kernel⟩
theorem sX4_20 : SiI RX4 20 mX5_init 0 := ⟨rfl, by decide, rfl, lw_meth q205, q68, Or.inr ⟨_, q203⟩, q204, rfl, by decide, by decide, by decide +kernel⟩
theorem sX4_21 : SiI RX4 21 mJ4_init 1 := ⟨rfl, by decide, rfl, lw_meth q210, q67, Or.inl q208, q209, rfl, by decide, by decide, by decide +kernel⟩
theorem sX4_60 : SiI RX4 60 mX7_init 2 := ⟨rfl, by decide, rfl, lw_meth q954, q105, Or.inl q952, q953, rfl, by decide, by decide, by decide +kernel⟩
theorem sX4_63 : SiV RX4 63 mJ1_get 1 := ⟨rfl, by decide, lw_V q963 q964 q965 q64 q966, by decide, by decide, by decide +kernel⟩
theorem sX4_28 : SiI RX4 28 mX4_init 0 := ⟨rfl, by decide, rfl, lw_meth q162, q62, Or.inl q1220, q161, rfl, by decide, by decide, by decide +kernel⟩
theorem sX4_29 : SiVW RX4 29 mJ1_putAll 1 := ⟨rfl, by decide, lw_VW q1221 q1222 q1223 q64 q1224, by decide, by decide, by decide +kernel⟩
theorem sX4_33_11 : SiU RX4 33 RJ4 "java/util/AbstractQueue" ⟨"java/util/PriorityQueue", "addAll", "(Ljava/util/Collection;)Z"⟩ mJ3_addAll 1 := ⟨rfl, by decide, lw_app (lw_in _ [1614, 1615, 1617, 1618, 66] (by decide +kernel) (by decide +kernel)) (lw_meth q1619), rfl, by decide, by decide, by decide +kernel⟩
theorem sX4_50 : SiV RX4 50 mJ1_put 2 := ⟨rfl, by decide, lw_V q1829 q1568 q2526 q64 q1569, by decide, by decide, by decide +kernel⟩
theorem sX4_54 : SiV RX4 54 mJ4_add 1 := ⟨rfl, by decide, lw_V q1830 q1696 q2527 q67 q1697, by decide, by decide, by decide +kernel⟩
theorem sX4_67 : SiV RX4 67 mJ1_remove 1 := ⟨rfl, by decide, lw_V q1974 q1975 q1976 q64 q1977, by decide, by decide, by decide +kernel⟩
theorem sX4_70 : SiV RX4 70 mJ4_remove 1 := ⟨rfl, by decide, lw_V q1987 q1988 q1989 q67 q1990, by decide, by decide, by decide +kernel⟩
theorem sX4_72_11 : SiU RX4 72 RJ4 "java/util/AbstractCollection" ⟨"java/util/PriorityQueue", "isEmpty", "()Z"⟩ mJ2_isEmpty 0 := ⟨rfl, by decide, lw_app (lw_in _ [2025, 2026, 2028, 2029, 65] (by decide +kernel) (by decide +kernel)) (lw_meth q2030), rfl, by decide, by decide, by decide +kernel⟩
theorem sX4_76 : SiV RX4 76 mJ4_peek 0 := ⟨rfl, by decide, lw_V q2051 q441 q442 q67 q443, by decide, by decide, by decide +kernel⟩
theorem sX4_83 : SiV RX4 83 mJ4_poll 0 := ⟨rfl, by decide, lw_V q2052 q2053 q2054 q67 q2055, by decide, by decide, by decide +kernel⟩
theorem sX5_29 : SiV RX5 29 mX5_compare_2 2 := ⟨rfl, by decide, lw_V q986 q987 q988 q68 q989, by decide, by decide, by decide +kernel⟩
theorem sX5_13 : SiS RX5 13 mJ27_compare 2 := ⟨rfl, by decide, lw_S q990 q991 q93 q992, by decide, by decide, by decide +kernel⟩
theorem sX5_23 : SiV RX5 23 mX7_compareTo 1 := ⟨rfl, by decide, lw_V q993 q994 q995 q105 q996, by decide, by decide, by decide +kernel⟩
theorem sX7_17 : SiS RX7 17 mJ27_compare 2 := ⟨rfl, by decide, lw_S q997 q991 q93 q992, by decide, by decide, by decide +kernel⟩
theorem sX7_23 : SiV RX7 23 mX7_compareTo 1 := ⟨rfl, by decide, lw_V q1013 q994 q995 q105 q996, by decide, by decide, by decide +kernel⟩
theorem sX9_11 : SiI RX9 11 mJ10_init 0 := ⟨rfl, by decide, rfl, lw_meth q355, q74, Or.inl q775, q354, rfl, by decide, by decide, by decide +kernel⟩
theorem sX9_61 : SiV RX9 61 mX9_act 0 := ⟨rfl, by decide, lw_V q794 q796 qs2 q110 q797, by decide, by decide, by decide +kernel⟩
theorem sX9_65 : SiV RX9 65 mJ10_add 1 := ⟨rfl, by decide, lw_V q844 q845 q846 q74 q847, by decide, by decide, by decide +kernel⟩
theorem sX9_26 : SiV RX9 26 mJ12_length 0 := ⟨rfl, by decide, lw_V q802 q474 q475 q76 q476, by decide, by decide, by decide +kernel⟩
theorem sX9_40 : SiV RX9 40 mX9_here 0 := ⟨rfl, by decide, lw_V q798 q800 qs3 q110 q801, by decide, by decide, by decide +kernel⟩
theorem sX9_48 : SiV RX9 48 mX9_step 1 := ⟨rfl, by decide, lw_V q818 q820 qs4 q110 q821, by decide, by decide, by decide +kernel⟩
theorem sX9_54 : SiV RX9 54 mX9_number 2 := ⟨rfl, by decide, lw_V q824 q826 qs5 q110 q827, by decide, by decide, by decide +kernel⟩
theorem sX9_58 : SiI RX9 58 mX10_init 2 := ⟨rfl, by decide, rfl, lw_meth q833, q111, Or.inl q831, q832, rfl, by decide, by decide, by decide +kernel⟩
theorem sX9_32 : SiV RX9 32 mJ12_charAt 1 := ⟨rfl, by decide, lw_V q803 q804 q805 q76 q806, by decide, by decide, by decide +kernel⟩
theorem sX9_44 : SiSN RX9 44 mX1_isWithin 3 := ⟨rfl, by decide, lw_meth q830, q59, ⟨_, q828⟩, q829, by decide, by decide, by decide +kernel⟩
theorem sX6_25 : SiV RX6 25 mX6_putsZone 3 := ⟨rfl, by decide, lw_V q2191 q2193 qs28 q79 q2194, by decide, by decide, by decide +kernel⟩
theorem sX6_29 : SiV RX6 29 mX6_puts 3 := ⟨rfl, by decide, lw_V q2195 q2197 qs29 q79 q2198, by decide, by decide, by decide +kernel⟩
theorem sX6_43 : SiS RX6 43 mX6_within 3 := ⟨rfl, by decide, lw_S q2241 q2242 q79 q2243, by decide, by decide, by decide +kernel⟩
theorem sX6_47 : SiV RX6 47 mX6_record 0 := ⟨rfl, by decide, lw_V q2244 q2246 qs30 q79 q2247, by decide, by decide, by decide +kernel⟩
theorem sX6_50 : SiV RX6 50 mX6_ofZone 2 := ⟨rfl, by decide, lw_V q2251 q2253 qs31 q79 q2254, by decide, by decide, by decide +kernel⟩
theorem sX6_39 : SiS RX6 39 mX6_lays 4 := ⟨rfl, by decide, lw_S q2248 q2249 q79 q2250, by decide, by decide, by decide +kernel⟩
theorem sX6_54 : SiS RX6 54 mX6_isZone 1 := ⟨rfl, by decide, lw_S q2259 q2260 q79 q2261, by decide, by decide, by decide +kernel⟩
theorem sX6_58 : SiS RX6 58 mX6_isAge 1 := ⟨rfl, by decide, lw_S q2262 q2263 q79 q2264, by decide, by decide, by decide +kernel⟩
theorem sX6_64 : SiS RX6 64 mX6_isRiddle 1 := ⟨rfl, by decide, lw_S q2269 q2270 q79 q2271, by decide, by decide, by decide +kernel⟩
theorem sX6_67 : SiV RX6 67 mX6_gives 4 := ⟨rfl, by decide, lw_V q2272 q2274 qs32 q79 q2275, by decide, by decide, by decide +kernel⟩
theorem sX6_61 : SiV RX6 61 mX6_of 2 := ⟨rfl, by decide, lw_V q2276 q2278 qs33 q79 q2279, by decide, by decide, by decide +kernel⟩
theorem sX6_85 : SiV RX6 85 mX6_solvesFirst 1 := ⟨rfl, by decide, lw_V q2292 q2294 qs34 q79 q2295, by decide, by decide, by decide +kernel⟩
theorem sX6_81 : SiV RX6 81 mX6_solves 1 := ⟨rfl, by decide, lw_V q2296 q2298 qs35 q79 q2299, by decide, by decide, by decide +kernel⟩
theorem sX6_78 : SiV RX6 78 mX6_asks 1 := ⟨rfl, by decide, lw_V q2300 q2302 qs36 q79 q2303, by decide, by decide, by decide +kernel⟩
theorem sX6_75 : SiV RX6 75 mX6_comesTo 1 := ⟨rfl, by decide, lw_V q2304 q2306 qs37 q79 q2307, by decide, by decide, by decide +kernel⟩
theorem sX6_71 : SiV RX6 71 mX6_costs 1 := ⟨rfl, by decide, lw_V q2308 q2310 qs38 q79 q2311, by decide, by decide, by decide +kernel⟩
theorem sX6_88 : SiV RX6 88 mX6_forgets 1 := ⟨rfl, by decide, lw_V q2316 q2318 qs39 q79 q2319, by decide, by decide, by decide +kernel⟩
theorem sX6_91 : SiV RX6 91 mX6_passes 1 := ⟨rfl, by decide, lw_V q2324 q2326 qs40 q79 q2327, by decide, by decide, by decide +kernel⟩
theorem sX6_94 : SiV RX6 94 mX6_tells 1 := ⟨rfl, by decide, lw_V q2332 q2334 qs41 q79 q2335, by decide, by decide, by decide +kernel⟩
theorem sX6_97 : SiV RX6 97 mX6_tellsZone 2 := ⟨rfl, by decide, lw_V q2340 q2342 qs42 q79 q2343, by decide, by decide, by decide +kernel⟩
theorem sX6_100 : SiV RX6 100 mX6_depth 1 := ⟨rfl, by decide, lw_V q2348 q2350 qs43 q79 q2351, by decide, by decide, by decide +kernel⟩
theorem sX6_103 : SiV RX6 103 mX6_tellsRiddle 2 := ⟨rfl, by decide, lw_V q2356 q2358 qs44 q79 q2359, by decide, by decide, by decide +kernel⟩
theorem sX6_106 : SiV RX6 106 mX6_truth 1 := ⟨rfl, by decide, lw_V q2368 q2370 qs45 q79 q2371, by decide, by decide, by decide +kernel⟩
theorem sX6_109 : SiV RX6 109 mX6_leftUntil 1 := ⟨rfl, by decide, lw_V q2380 q2382 qs46 q79 q2383, by decide, by decide, by decide +kernel⟩
theorem sX6_112 : SiV RX6 112 mX6_memories 0 := ⟨rfl, by decide, lw_V q2392 q2394 qs47 q79 q2395, by decide, by decide, by decide +kernel⟩
theorem sX6_119 : SiV RX6 119 mX6_untilForgetting 0 := ⟨rfl, by decide, lw_V q2404 q2406 qs48 q79 q2407, by decide, by decide, by decide +kernel⟩
theorem sX6_116 : SiS RX6 116 mX6_sooner 2 := ⟨rfl, by decide, lw_S q2408 q2409 q79 q2410, by decide, by decide, by decide +kernel⟩
theorem sX6_122 : SiV RX6 122 mX6_isOld 1 := ⟨rfl, by decide, lw_V q2415 q2417 qs49 q79 q2418, by decide, by decide, by decide +kernel⟩
theorem sX6_125 : SiV RX6 125 mX6_would 1 := ⟨rfl, by decide, lw_V q2443 q2445 qs50 q79 q2446, by decide, by decide, by decide +kernel⟩
theorem sX6_128 : SiV RX6 128 mX6_cost 1 := ⟨rfl, by decide, lw_V q2451 q2453 qs51 q79 q2454, by decide, by decide, by decide +kernel⟩
theorem sX6_131 : SiV RX6 131 mX6_wouldIn 2 := ⟨rfl, by decide, lw_V q2459 q2461 qs52 q79 q2462, by decide, by decide, by decide +kernel⟩
theorem sX6_157 : SiV RX6 157 mX6_findError 0 := ⟨rfl, by decide, lw_V q2475 q2477 qs53 q79 q2478, by decide, by decide, by decide +kernel⟩
theorem sX6_153 : SiV RX6 153 mX6_readsAct 0 := ⟨rfl, by decide, lw_V q2479 q2481 qs54 q79 q2482, by decide, by decide, by decide +kernel⟩
theorem sX6_140 : SiV RX6 140 mX6_accepts 2 := ⟨rfl, by decide, lw_V q2483 q2485 qs55 q79 q2486, by decide, by decide, by decide +kernel⟩
theorem sX6_150 : SiV RX6 150 mX6_readsNumber 2 := ⟨rfl, by decide, lw_V q2487 q2489 qs56 q79 q2490, by decide, by decide, by decide +kernel⟩
theorem sX6_160 : SiV RX6 160 mX6_happens 0 := ⟨rfl, by decide, lw_V q2495 q2497 qs57 q79 q2498, by decide, by decide, by decide +kernel⟩
theorem sJ0_52_10 : SiF RJ0 52 RJ1 ⟨"java/util/Map", "entrySet", "()Ljava/util/Set;"⟩ mJ1_entrySet 0 := ⟨rfl, by decide, lw_app (lw_in _ [1529, 1286, 1288, 64] (by decide +kernel) (by decide +kernel)) (lw_meth q1290), List.mem_of_getElem? (i := 5) rfl, by decide, by decide, by decide +kernel⟩
theorem sJ0_20_14 : SiF RJ0 20 RJ21 ⟨"java/util/Set", "iterator", "()Ljava/util/Iterator;"⟩ mJ21_iterator 0 := ⟨rfl, by decide, lw_app (lw_in _ [1531, 1309, 1311, 87] (by decide +kernel) (by decide +kernel)) (lw_meth q1313), List.mem_of_getElem? (i := 6) rfl, by decide, by decide, by decide +kernel⟩
theorem sJ0_24_19 : SiF RJ0 24 RJ34 ⟨"java/util/Iterator", "hasNext", "()Z"⟩ mJ34_hasNext 0 := ⟨rfl, by decide, lw_app (lw_in _ [1533, 1536, 1538, 101] (by decide +kernel) (by decide +kernel)) (lw_meth q1540), List.mem_of_getElem? (i := 13) rfl, by decide, by decide, by decide +kernel⟩
theorem sJ0_24_20 : SiF RJ0 24 RJ35 ⟨"java/util/Iterator", "hasNext", "()Z"⟩ mJ35_hasNext 0 := ⟨rfl, by decide, lw_app (lw_in _ [1533, 1541, 1543, 102] (by decide +kernel) (by decide +kernel)) (lw_meth q1545), List.mem_of_getElem? (i := 14) rfl, by decide, by decide, by decide +kernel⟩
theorem sJ0_24_15 : SiF RJ0 24 RJ23 ⟨"java/util/Iterator", "hasNext", "()Z"⟩ mJ22_hasNext 0 := ⟨rfl, by decide, lw_app (lw_in _ [1533, 1550, 1552, 88] (by decide +kernel) (by decide +kernel)) (lw_meth q1554), List.mem_of_getElem? (i := 15) rfl, by decide, by decide, by decide +kernel⟩
theorem sJ0_24_16 : SiF RJ0 24 RJ24 ⟨"java/util/Iterator", "hasNext", "()Z"⟩ mJ22_hasNext 0 := ⟨rfl, by decide, lw_app (lw_in _ [1533, 1555, 1552, 88] (by decide +kernel) (by decide +kernel)) (lw_meth q1554), List.mem_of_getElem? (i := 16) rfl, by decide, by decide, by decide +kernel⟩
theorem sJ0_30_19 : SiF RJ0 30 RJ34 ⟨"java/util/Iterator", "next", "()Ljava/lang/Object;"⟩ mJ34_next 0 := ⟨rfl, by decide, lw_app (lw_in _ [1558, 1418, 1420, 101] (by decide +kernel) (by decide +kernel)) (lw_meth q1422), List.mem_of_getElem? (i := 9) rfl, by decide, by decide, by decide +kernel⟩
theorem sJ0_30_20 : SiF RJ0 30 RJ35 ⟨"java/util/Iterator", "next", "()Ljava/lang/Object;"⟩ mJ35_next 0 := ⟨rfl, by decide, lw_app (lw_in _ [1558, 1428, 1430, 102] (by decide +kernel) (by decide +kernel)) (lw_meth q1432), List.mem_of_getElem? (i := 10) rfl, by decide, by decide, by decide +kernel⟩
theorem sJ0_30_15 : SiF RJ0 30 RJ23 ⟨"java/util/Iterator", "next", "()Ljava/lang/Object;"⟩ mJ23_next 0 := ⟨rfl, by decide, lw_app (lw_in _ [1558, 1448, 1450, 89] (by decide +kernel) (by decide +kernel)) (lw_meth q1452), List.mem_of_getElem? (i := 11) rfl, by decide, by decide, by decide +kernel⟩
theorem sJ0_30_16 : SiF RJ0 30 RJ24 ⟨"java/util/Iterator", "next", "()Ljava/lang/Object;"⟩ mJ24_next 0 := ⟨rfl, by decide, lw_app (lw_in _ [1558, 1467, 1469, 90] (by decide +kernel) (by decide +kernel)) (lw_meth q1471), List.mem_of_getElem? (i := 12) rfl, by decide, by decide, by decide +kernel⟩
theorem sJ0_43_18 : SiF RJ0 43 RJ29 ⟨"java/util/Map$Entry", "getKey", "()Ljava/lang/Object;"⟩ mJ29_getKey 0 := ⟨rfl, by decide, lw_app (lw_in _ [1561, 1481, 1483, 95] (by decide +kernel) (by decide +kernel)) (lw_meth q1485), List.mem_of_getElem? (i := 17) rfl, by decide, by decide, by decide +kernel⟩
theorem sJ0_36_18 : SiF RJ0 36 RJ29 ⟨"java/util/Map$Entry", "getValue", "()Ljava/lang/Object;"⟩ mJ29_getValue 0 := ⟨rfl, by decide, lw_app (lw_in _ [1563, 1490, 1492, 95] (by decide +kernel) (by decide +kernel)) (lw_meth q1494), List.mem_of_getElem? (i := 18) rfl, by decide, by decide, by decide +kernel⟩
theorem sJ1_1 : SiI RJ1 1 mJ0_init 0 := ⟨rfl, by decide, rfl, lw_meth q171, q63, Or.inl q169, q170, rfl, by decide, by decide, by decide +kernel⟩
theorem sJ1_50 : SiV RJ1 50 mJ1_getEntry 1 := ⟨rfl, by decide, lw_V q967 q968 q969 q64 q970, by decide, by decide, by decide +kernel⟩
theorem sJ1_92 : SiV RJ1 92 mJ1_getEntryUsingComparator 1 := ⟨rfl, by decide, lw_V q971 q972 q973 q64 q974, by decide, by decide, by decide +kernel⟩
theorem sJ1_95 : SiS RJ1 95 mJ17_requireNonNull 1 := ⟨rfl, by decide, lw_S q998 q999 q82 q1000, by decide, by decide, by decide +kernel⟩
theorem sJ1_107_6 : SiF RJ1 107 RX7 ⟨"java/lang/Comparable", "compareTo", "(Ljava/lang/Object;)I"⟩ mX7_compareTo_2 1 := ⟨rfl, by decide, lw_app (lw_in _ [1003, 1007, 1009, 105] (by decide +kernel) (by decide +kernel)) (lw_meth q1011), List.mem_of_getElem? (i := 0) rfl, by decide, by decide, by decide +kernel⟩
theorem sJ1_107_22 : SiF RJ1 107 RJ27 ⟨"java/lang/Comparable", "compareTo", "(Ljava/lang/Object;)I"⟩ mJ27_compareTo 1 := ⟨rfl, by decide, lw_app (lw_in _ [1003, 1015, 1017, 93] (by decide +kernel) (by decide +kernel)) (lw_meth q1019), List.mem_of_getElem? (i := 1) rfl, by decide, by decide, by decide +kernel⟩
theorem sJ1_117_4 : SiF RJ1 117 RX5 ⟨"java/util/Comparator", "compare", "(Ljava/lang/Object;Ljava/lang/Object;)I"⟩ mX5_compare 2 := ⟨rfl, by decide, lw_app (lw_in _ [976, 980, 982, 68] (by decide +kernel) (by decide +kernel)) (lw_meth q984), List.mem_of_getElem? (i := 2) rfl, by decide, by decide, by decide +kernel⟩
theorem sJ1_82_10 : SiF RJ1 82 RJ1 ⟨"java/util/Map", "size", "()I"⟩ mJ1_size 0 := ⟨rfl, by decide, lw_app (lw_in _ [1226, 1230, 429, 64] (by decide +kernel) (by decide +kernel)) (lw_meth q431), List.mem_of_getElem? (i := 3) rfl, by decide, by decide, by decide +kernel⟩
theorem sJ1_24_10 : SiF RJ1 24 RJ1 ⟨"java/util/SortedMap", "comparator", "()Ljava/util/Comparator;"⟩ mJ1_comparator 0 := ⟨rfl, by decide, lw_app (lw_in _ [1235, 1239, 1241, 64] (by decide +kernel) (by decide +kernel)) (lw_meth q1243), List.mem_of_getElem? (i := 4) rfl, by decide, by decide, by decide +kernel⟩
theorem sJ1_85 : SiS RJ1 85 mJ17_equals 2 := ⟨rfl, by decide, lw_S q1244 q1245 q82 q1246, by decide, by decide, by decide +kernel⟩
theorem sJ1_90_10 : SiF RJ1 90 RJ1 ⟨"java/util/Map", "entrySet", "()Ljava/util/Set;"⟩ mJ1_entrySet 0 := ⟨rfl, by decide, lw_app (lw_in _ [1283, 1286, 1288, 64] (by decide +kernel) (by decide +kernel)) (lw_meth q1290), List.mem_of_getElem? (i := 5) rfl, by decide, by decide, by decide +kernel⟩
theorem sJ1_36_14 : SiF RJ1 36 RJ21 ⟨"java/util/Set", "iterator", "()Ljava/util/Iterator;"⟩ mJ21_iterator 0 := ⟨rfl, by decide, lw_app (lw_in _ [1305, 1309, 1311, 87] (by decide +kernel) (by decide +kernel)) (lw_meth q1313), List.mem_of_getElem? (i := 6) rfl, by decide, by decide, by decide +kernel⟩
theorem sJ1_42 : SiV RJ1 42 mJ1_buildFromSorted 4 := ⟨rfl, by decide, lw_V q1401 q1403 qs10 q64 q1404, by decide, by decide, by decide +kernel⟩
theorem sJ1_91 : SiSU RJ1 91 mJ0_putAll 1 := ⟨rfl, by decide, lw_app (lw_in _ [1525, 2524, 198, 1526, 63] (by decide +kernel) (by decide +kernel)) (lw_meth q1527), by decide, by decide +kernel⟩
theorem sJ1_244 : SiI RJ1 244 mJ21_init 1 := ⟨rfl, by decide, rfl, lw_meth q1295, q87, Or.inl q1293, q1294, rfl, by decide, by decide, by decide +kernel⟩
theorem sJ1_54 : SiV RJ1 54 mJ1_getFirstEntry 0 := ⟨rfl, by decide, lw_V q1353 q1317 q1318 q64 q1319, by decide, by decide, by decide +kernel⟩
theorem sJ1_271 : SiI RJ1 271 mJ24_init 2 := ⟨rfl, by decide, rfl, lw_meth q1356, q90, Or.inl q1354, q1355, rfl, by decide, by decide, by decide +kernel⟩
theorem sJ1_224 : SiI RJ1 224 mJ25_init 1 := ⟨rfl, by decide, rfl, lw_meth q1387, q91, Or.inl q1385, q1386, rfl, by decide, by decide, by decide +kernel⟩
theorem sJ1_362 : SiS RJ1 362 mJ1_computeRedLevel 1 := ⟨rfl, by decide, lw_S q1405 q1406 q64 q1407, by decide, by decide, by decide +kernel⟩
theorem sJ1_366 : SiV RJ1 366 mJ1_buildFromSorted_2 7 := ⟨rfl, by decide, lw_V q1409 q1411 qs11 q64 q1412, by decide, by decide, by decide +kernel⟩
theorem sJ1_372 : SiS RJ1 372 mJ27_numberOfLeadingZeros 1 := ⟨rfl, by decide, lw_S q1408 q1116 q93 q1117, by decide, by decide, by decide +kernel⟩
theorem sJ1_335_19 : SiF RJ1 335 RJ34 ⟨"java/util/Iterator", "next", "()Ljava/lang/Object;"⟩ mJ34_next 0 := ⟨rfl, by decide, lw_app (lw_in _ [1414, 1418, 1420, 101] (by decide +kernel) (by decide +kernel)) (lw_meth q1422), List.mem_of_getElem? (i := 9) rfl, by decide, by decide, by decide +kernel⟩
theorem sJ1_335_20 : SiF RJ1 335 RJ35 ⟨"java/util/Iterator", "next", "()Ljava/lang/Object;"⟩ mJ35_next 0 := ⟨rfl, by decide, lw_app (lw_in _ [1414, 1428, 1430, 102] (by decide +kernel) (by decide +kernel)) (lw_meth q1432), List.mem_of_getElem? (i := 10) rfl, by decide, by decide, by decide +kernel⟩
theorem sJ1_335_15 : SiF RJ1 335 RJ23 ⟨"java/util/Iterator", "next", "()Ljava/lang/Object;"⟩ mJ23_next 0 := ⟨rfl, by decide, lw_app (lw_in _ [1414, 1448, 1450, 89] (by decide +kernel) (by decide +kernel)) (lw_meth q1452), List.mem_of_getElem? (i := 11) rfl, by decide, by decide, by decide +kernel⟩
theorem sJ1_335_16 : SiF RJ1 335 RJ24 ⟨"java/util/Iterator", "next", "()Ljava/lang/Object;"⟩ mJ24_next 0 := ⟨rfl, by decide, lw_app (lw_in _ [1414, 1467, 1469, 90] (by decide +kernel) (by decide +kernel)) (lw_meth q1471), List.mem_of_getElem? (i := 12) rfl, by decide, by decide, by decide +kernel⟩
theorem sJ1_340_18 : SiF RJ1 340 RJ29 ⟨"java/util/Map$Entry", "getKey", "()Ljava/lang/Object;"⟩ mJ29_getKey 0 := ⟨rfl, by decide, lw_app (lw_in _ [1477, 1481, 1483, 95] (by decide +kernel) (by decide +kernel)) (lw_meth q1485), List.mem_of_getElem? (i := 17) rfl, by decide, by decide, by decide +kernel⟩
theorem sJ1_347_18 : SiF RJ1 347 RJ29 ⟨"java/util/Map$Entry", "getValue", "()Ljava/lang/Object;"⟩ mJ29_getValue 0 := ⟨rfl, by decide, lw_app (lw_in _ [1487, 1490, 1492, 95] (by decide +kernel) (by decide +kernel)) (lw_meth q1494), List.mem_of_getElem? (i := 18) rfl, by decide, by decide, by decide +kernel⟩
theorem sJ1_167 : SiI RJ1 167 mJ29_init 3 := ⟨rfl, by decide, rfl, lw_meth q1499, q95, Or.inl q1497, q1498, rfl, by decide, by decide, by decide +kernel⟩
theorem sJ1_127 : SiV RJ1 127 mJ1_put_2 3 := ⟨rfl, by decide, lw_V q1570 q1572 qs12 q64 q1573, by decide, by decide, by decide +kernel⟩
theorem sJ1_135 : SiV RJ1 135 mJ1_addEntryToEmptyMap 2 := ⟨rfl, by decide, lw_V q1574 q1576 qs13 q64 q1577, by decide, by decide, by decide +kernel⟩
theorem sJ1_139 : SiV RJ1 139 mJ1_addEntry 4 := ⟨rfl, by decide, lw_V q1582 q1584 qs14 q64 q1585, by decide, by decide, by decide +kernel⟩
theorem sJ1_123 : SiV RJ1 123 mJ1_compare 2 := ⟨rfl, by decide, lw_V q1578 q1579 q1580 q64 q1581, by decide, by decide, by decide +kernel⟩
theorem sJ1_170 : SiV RJ1 170 mJ1_fixAfterInsertion 1 := ⟨rfl, by decide, lw_V q1586 q1588 qs15 q64 q1589, by decide, by decide, by decide +kernel⟩
theorem sJ1_294 : SiS RJ1 294 mJ1_parentOf 1 := ⟨rfl, by decide, lw_S q1590 q1591 q64 q1592, by decide, by decide, by decide +kernel⟩
theorem sJ1_297 : SiS RJ1 297 mJ1_leftOf 1 := ⟨rfl, by decide, lw_S q1593 q1594 q64 q1595, by decide, by decide, by decide +kernel⟩
theorem sJ1_300 : SiS RJ1 300 mJ1_rightOf 1 := ⟨rfl, by decide, lw_S q1596 q1597 q64 q1598, by decide, by decide, by decide +kernel⟩
theorem sJ1_303 : SiS RJ1 303 mJ1_colorOf 1 := ⟨rfl, by decide, lw_S q1599 q1600 q64 q1601, by decide, by decide, by decide +kernel⟩
theorem sJ1_307 : SiS RJ1 307 mJ1_setColor 2 := ⟨rfl, by decide, lw_S q1602 q1603 q64 q1604, by decide, by decide, by decide +kernel⟩
theorem sJ1_311 : SiV RJ1 311 mJ1_rotateLeft 1 := ⟨rfl, by decide, lw_V q1605 q1607 qs16 q64 q1608, by decide, by decide, by decide +kernel⟩
theorem sJ1_314 : SiV RJ1 314 mJ1_rotateRight 1 := ⟨rfl, by decide, lw_V q1609 q1611 qs17 q64 q1612, by decide, by decide, by decide +kernel⟩
theorem sJ1_174 : SiV RJ1 174 mJ1_deleteEntry 1 := ⟨rfl, by decide, lw_V q1978 q1980 qs24 q64 q1981, by decide, by decide, by decide +kernel⟩
theorem sJ1_68 : SiS RJ1 68 mJ1_successor 1 := ⟨rfl, by decide, lw_S q1982 q1464 q64 q1465, by decide, by decide, by decide +kernel⟩
theorem sJ1_317 : SiV RJ1 317 mJ1_fixAfterDeletion 1 := ⟨rfl, by decide, lw_V q1983 q1985 qs25 q64 q1986, by decide, by decide, by decide +kernel⟩
theorem sJ3_1 : SiI RJ3 1 mJ2_init 0 := ⟨rfl, by decide, rfl, lw_meth q219, q65, Or.inl q217, q218, rfl, by decide, by decide, by decide +kernel⟩
theorem sJ3_35 : SiI RJ3 35 mJ8_init 0 := ⟨rfl, by decide, rfl, lw_meth q266, q72, Or.inl q1621, q265, rfl, by decide, by decide, by decide +kernel⟩
theorem sJ3_36_11 : SiF RJ3 36 RJ4 ⟨"java/util/Collection", "iterator", "()Ljava/util/Iterator;"⟩ mJ4_iterator 0 := ⟨rfl, by decide, lw_app (lw_in _ [1623, 1652, 1654, 67] (by decide +kernel) (by decide +kernel)) (lw_meth q1656), List.mem_of_getElem? (i := 19) rfl, by decide, by decide, by decide +kernel⟩
theorem sJ3_42_19 : SiF RJ3 42 RJ34 ⟨"java/util/Iterator", "hasNext", "()Z"⟩ mJ34_hasNext 0 := ⟨rfl, by decide, lw_app (lw_in _ [1689, 1536, 1538, 101] (by decide +kernel) (by decide +kernel)) (lw_meth q1540), List.mem_of_getElem? (i := 13) rfl, by decide, by decide, by decide +kernel⟩
theorem sJ3_42_20 : SiF RJ3 42 RJ35 ⟨"java/util/Iterator", "hasNext", "()Z"⟩ mJ35_hasNext 0 := ⟨rfl, by decide, lw_app (lw_in _ [1689, 1541, 1543, 102] (by decide +kernel) (by decide +kernel)) (lw_meth q1545), List.mem_of_getElem? (i := 14) rfl, by decide, by decide, by decide +kernel⟩
theorem sJ3_42_15 : SiF RJ3 42 RJ23 ⟨"java/util/Iterator", "hasNext", "()Z"⟩ mJ22_hasNext 0 := ⟨rfl, by decide, lw_app (lw_in _ [1689, 1550, 1552, 88] (by decide +kernel) (by decide +kernel)) (lw_meth q1554), List.mem_of_getElem? (i := 15) rfl, by decide, by decide, by decide +kernel⟩
theorem sJ3_42_16 : SiF RJ3 42 RJ24 ⟨"java/util/Iterator", "hasNext", "()Z"⟩ mJ22_hasNext 0 := ⟨rfl, by decide, lw_app (lw_in _ [1689, 1555, 1552, 88] (by decide +kernel) (by decide +kernel)) (lw_meth q1554), List.mem_of_getElem? (i := 16) rfl, by decide, by decide, by decide +kernel⟩
theorem sJ3_48_19 : SiF RJ3 48 RJ34 ⟨"java/util/Iterator", "next", "()Ljava/lang/Object;"⟩ mJ34_next 0 := ⟨rfl, by decide, lw_app (lw_in _ [1691, 1418, 1420, 101] (by decide +kernel) (by decide +kernel)) (lw_meth q1422), List.mem_of_getElem? (i := 9) rfl, by decide, by decide, by decide +kernel⟩
theorem sJ3_48_20 : SiF RJ3 48 RJ35 ⟨"java/util/Iterator", "next", "()Ljava/lang/Object;"⟩ mJ35_next 0 := ⟨rfl, by decide, lw_app (lw_in _ [1691, 1428, 1430, 102] (by decide +kernel) (by decide +kernel)) (lw_meth q1432), List.mem_of_getElem? (i := 10) rfl, by decide, by decide, by decide +kernel⟩
theorem sJ3_48_15 : SiF RJ3 48 RJ23 ⟨"java/util/Iterator", "next", "()Ljava/lang/Object;"⟩ mJ23_next 0 := ⟨rfl, by decide, lw_app (lw_in _ [1691, 1448, 1450, 89] (by decide +kernel) (by decide +kernel)) (lw_meth q1452), List.mem_of_getElem? (i := 11) rfl, by decide, by decide, by decide +kernel⟩
theorem sJ3_48_16 : SiF RJ3 48 RJ24 ⟨"java/util/Iterator", "next", "()Ljava/lang/Object;"⟩ mJ24_next 0 := ⟨rfl, by decide, lw_app (lw_in _ [1691, 1467, 1469, 90] (by decide +kernel) (by decide +kernel)) (lw_meth q1471), List.mem_of_getElem? (i := 12) rfl, by decide, by decide, by decide +kernel⟩
theorem sJ4_3 : SiI RJ4 3 mJ4_init_2 2 := ⟨rfl, by decide, rfl, lw_meth q213, q67, Or.inl q211, q212, rfl, by decide, by decide, by decide +kernel⟩
theorem sJ4_7 : SiI RJ4 7 mJ3_init 0 := ⟨rfl, by decide, rfl, lw_meth q216, q66, Or.inl q214, q215, rfl, by decide, by decide, by decide +kernel⟩
theorem sJ4_14 : SiI RJ4 14 mJ8_init 0 := ⟨rfl, by decide, rfl, lw_meth q266, q72, Or.inl q264, q265, rfl, by decide, by decide, by decide +kernel⟩
theorem sJ4_123 : SiI RJ4 123 mJ35_init 1 := ⟨rfl, by decide, rfl, lw_meth q1661, q102, Or.inl q1659, q1660, rfl, by decide, by decide, by decide +kernel⟩
theorem sJ4_89 : SiV RJ4 89 mJ4_offer 1 := ⟨rfl, by decide, lw_V q1698 q1699 q1700 q67 q1701, by decide, by decide, by decide +kernel⟩
theorem sJ4_96 : SiV RJ4 96 mJ4_grow 1 := ⟨rfl, by decide, lw_V q1702 q1704 qs18 q67 q1705, by decide, by decide, by decide +kernel⟩
theorem sJ4_100 : SiV RJ4 100 mJ4_siftUp 2 := ⟨rfl, by decide, lw_V q1708 q1710 qs19 q67 q1711, by decide, by decide, by decide +kernel⟩
theorem sJ4_80 : SiS RJ4 80 mJ31_newLength 3 := ⟨rfl, by decide, lw_S q1706 q517 q97 q518, by decide, by decide, by decide +kernel⟩
theorem sJ4_86 : SiS RJ4 86 mJ36_copyOf_2 2 := ⟨rfl, by decide, lw_S q1707 q862 q103 q863, by decide, by decide, by decide +kernel⟩
theorem sJ4_136 : SiS RJ4 136 mJ4_siftUpUsingComparator 4 := ⟨rfl, by decide, lw_S q1712 q1713 q67 q1714, by decide, by decide, by decide +kernel⟩
theorem sJ4_140 : SiS RJ4 140 mJ4_siftUpComparable 3 := ⟨rfl, by decide, lw_S q1717 q1718 q67 q1719, by decide, by decide, by decide +kernel⟩
theorem sJ4_149_4 : SiF RJ4 149 RX5 ⟨"java/util/Comparator", "compare", "(Ljava/lang/Object;Ljava/lang/Object;)I"⟩ mX5_compare 2 := ⟨rfl, by decide, lw_app (lw_in _ [1716, 980, 982, 68] (by decide +kernel) (by decide +kernel)) (lw_meth q984), List.mem_of_getElem? (i := 2) rfl, by decide, by decide, by decide +kernel⟩
theorem sJ4_146_6 : SiF RJ4 146 RX7 ⟨"java/lang/Comparable", "compareTo", "(Ljava/lang/Object;)I"⟩ mX7_compareTo_2 1 := ⟨rfl, by decide, lw_app (lw_in _ [1722, 1007, 1009, 105] (by decide +kernel) (by decide +kernel)) (lw_meth q1011), List.mem_of_getElem? (i := 0) rfl, by decide, by decide, by decide +kernel⟩
theorem sJ4_146_22 : SiF RJ4 146 RJ27 ⟨"java/lang/Comparable", "compareTo", "(Ljava/lang/Object;)I"⟩ mJ27_compareTo 1 := ⟨rfl, by decide, lw_app (lw_in _ [1722, 1015, 1017, 93] (by decide +kernel) (by decide +kernel)) (lw_meth q1019), List.mem_of_getElem? (i := 1) rfl, by decide, by decide, by decide +kernel⟩
theorem sJ4_107 : SiV RJ4 107 mJ4_indexOf 1 := ⟨rfl, by decide, lw_V q1991 q1993 qs26 q67 q1994, by decide, by decide, by decide +kernel⟩
theorem sJ4_111 : SiV RJ4 111 mJ4_removeAt 1 := ⟨rfl, by decide, lw_V q1996 q1997 q1998 q67 q1999, by decide, by decide, by decide +kernel⟩
theorem sJ4_104_0 : SiU RJ4 104 RX1 "java/lang/Object" ⟨"java/lang/Object", "equals", "(Ljava/lang/Object;)Z"⟩ mJ40_equals 1 := ⟨rfl, by decide, lw_app (lw_in _ [1995, 1250, 1251, 1249, 2530] (by decide +kernel) (by decide +kernel)) (lw_meth q1281), rfl, by decide, by decide, by decide +kernel⟩
theorem sJ4_104_1 : SiU RJ4 104 RX2 "java/lang/Object" ⟨"java/lang/Object", "equals", "(Ljava/lang/Object;)Z"⟩ mJ40_equals 1 := ⟨rfl, by decide, lw_app (lw_in _ [1995, 1250, 1255, 1249, 2530] (by decide +kernel) (by decide +kernel)) (lw_meth q1281), rfl, by decide, by decide, by decide +kernel⟩
theorem sJ4_104_2 : SiU RJ4 104 RX3 "java/lang/Object" ⟨"java/lang/Object", "equals", "(Ljava/lang/Object;)Z"⟩ mJ40_equals 1 := ⟨rfl, by decide, lw_app (lw_in _ [1995, 1250, 1259, 1249, 2530] (by decide +kernel) (by decide +kernel)) (lw_meth q1281), rfl, by decide, by decide, by decide +kernel⟩
theorem sJ4_104_3 : SiU RJ4 104 RX4 "java/lang/Object" ⟨"java/lang/Object", "equals", "(Ljava/lang/Object;)Z"⟩ mJ40_equals 1 := ⟨rfl, by decide, lw_app (lw_in _ [1995, 1250, 1253, 1249, 2530] (by decide +kernel) (by decide +kernel)) (lw_meth q1281), rfl, by decide, by decide, by decide +kernel⟩
theorem sJ4_104_4 : SiU RJ4 104 RX5 "java/lang/Object" ⟨"java/lang/Object", "equals", "(Ljava/lang/Object;)Z"⟩ mJ40_equals 1 := ⟨rfl, by decide, lw_app (lw_in _ [1995, 1250, 1257, 1249, 2530] (by decide +kernel) (by decide +kernel)) (lw_meth q1281), rfl, by decide, by decide, by decide +kernel⟩
theorem sJ4_104_5 : SiU RJ4 104 RX6 "java/lang/Object" ⟨"java/lang/Object", "equals", "(Ljava/lang/Object;)Z"⟩ mJ40_equals 1 := ⟨rfl, by decide, lw_app (lw_in _ [1995, 1250, 1260, 1249, 2530] (by decide +kernel) (by decide +kernel)) (lw_meth q1281), rfl, by decide, by decide, by decide +kernel⟩
theorem sJ4_104_6 : SiU RJ4 104 RX7 "java/lang/Object" ⟨"java/lang/Object", "equals", "(Ljava/lang/Object;)Z"⟩ mJ40_equals 1 := ⟨rfl, by decide, lw_app (lw_in _ [1995, 1250, 1258, 1249, 2530] (by decide +kernel) (by decide +kernel)) (lw_meth q1281), rfl, by decide, by decide, by decide +kernel⟩
theorem sJ4_104_7 : SiU RJ4 104 RX8 "java/lang/Object" ⟨"java/lang/Object", "equals", "(Ljava/lang/Object;)Z"⟩ mJ40_equals 1 := ⟨rfl, by decide, lw_app (lw_in _ [1995, 1250, 1254, 1249, 2530] (by decide +kernel) (by decide +kernel)) (lw_meth q1281), rfl, by decide, by decide, by decide +kernel⟩
theorem sJ4_104_8 : SiU RJ4 104 RX9 "java/lang/Object" ⟨"java/lang/Object", "equals", "(Ljava/lang/Object;)Z"⟩ mJ40_equals 1 := ⟨rfl, by decide, lw_app (lw_in _ [1995, 1250, 1256, 1249, 2530] (by decide +kernel) (by decide +kernel)) (lw_meth q1281), rfl, by decide, by decide, by decide +kernel⟩
theorem sJ4_104_9 : SiU RJ4 104 RX10 "java/lang/Object" ⟨"java/lang/Object", "equals", "(Ljava/lang/Object;)Z"⟩ mJ40_equals 1 := ⟨rfl, by decide, lw_app (lw_in _ [1995, 1250, 1252, 1249, 2530] (by decide +kernel) (by decide +kernel)) (lw_meth q1281), rfl, by decide, by decide, by decide +kernel⟩
theorem sJ4_104_13 : SiU RJ4 104 RJ12 "java/lang/Object" ⟨"java/lang/Object", "equals", "(Ljava/lang/Object;)Z"⟩ mJ40_equals 1 := ⟨rfl, by decide, lw_app (lw_in _ [1995, 1250, 1278, 1249, 2530] (by decide +kernel) (by decide +kernel)) (lw_meth q1281), rfl, by decide, by decide, by decide +kernel⟩
theorem sJ4_104_22 : SiO RJ4 104 RJ27 "java/lang/Object" ⟨"java/lang/Object", "equals", "(Ljava/lang/Object;)Z"⟩ mJ27_equals 1 := ⟨rfl, by decide, lw_app (lw_in _ [1995, 1250, 1249, 1265, 1266, 93] (by decide +kernel) (by decide +kernel)) (lw_meth q1267), ⟨_, _, _, q1281⟩, by decide, by decide, by decide +kernel⟩
theorem sJ4_133 : SiV RJ4 133 mJ4_siftDown 2 := ⟨rfl, by decide, lw_V q2000 q2002 qs27 q67 q2003, by decide, by decide, by decide +kernel⟩
theorem sJ4_129 : SiS RJ4 129 mJ4_siftDownUsingComparator 5 := ⟨rfl, by decide, lw_S q2004 q2005 q67 q2006, by decide, by decide, by decide +kernel⟩
theorem sJ4_125 : SiS RJ4 125 mJ4_siftDownComparable 4 := ⟨rfl, by decide, lw_S q2007 q2008 q67 q2009, by decide, by decide, by decide +kernel⟩
theorem sJ20_1 : SiI RJ20 1 mJ2_init 0 := ⟨rfl, by decide, rfl, lw_meth q219, q65, Or.inl q1299, q218, rfl, by decide, by decide, by decide +kernel⟩
theorem sJ21_7 : SiI RJ21 7 mJ20_init 0 := ⟨rfl, by decide, rfl, lw_meth q1298, q86, Or.inl q1296, q1297, rfl, by decide, by decide, by decide +kernel⟩
theorem sJ21_15 : SiV RJ21 15 mJ1_getFirstEntry 0 := ⟨rfl, by decide, lw_V q1316 q1317 q1318 q64 q1319, by decide, by decide, by decide +kernel⟩
theorem sJ21_21 : SiI RJ21 21 mJ23_init 2 := ⟨rfl, by decide, rfl, lw_meth q1322, q89, Or.inl q1320, q1321, rfl, by decide, by decide, by decide +kernel⟩
theorem sJ21_48 : SiV RJ21 48 mJ1_size 0 := ⟨rfl, by decide, lw_V q2041 q429 q430 q64 q431, by decide, by decide, by decide +kernel⟩
theorem sJ22_35 : SiS RJ22 35 mJ1_successor 1 := ⟨rfl, by decide, lw_S q1463 q1464 q64 q1465, by decide, by decide, by decide +kernel⟩
theorem sJ23_1 : SiI RJ23 1 mJ22_init 2 := ⟨rfl, by decide, rfl, lw_meth q1325, q88, Or.inl q1323, q1324, rfl, by decide, by decide, by decide +kernel⟩
theorem sJ23_13 : SiV RJ23 13 mJ23_next_2 0 := ⟨rfl, by decide, lw_V q1453 q1454 q1455 q89 q1456, by decide, by decide, by decide +kernel⟩
theorem sJ23_7_15 : SiU RJ23 7 RJ23 "java/util/TreeMap$PrivateEntryIterator" ⟨"java/util/TreeMap$EntryIterator", "nextEntry", "()Ljava/util/TreeMap$Entry;"⟩ mJ22_nextEntry 0 := ⟨rfl, by decide, lw_app (lw_in _ [1457, 1458, 1460, 1461, 88] (by decide +kernel) (by decide +kernel)) (lw_meth q1462), rfl, by decide, by decide, by decide +kernel⟩
theorem sJ24_1 : SiI RJ24 1 mJ22_init 2 := ⟨rfl, by decide, rfl, lw_meth q1325, q88, Or.inl q1357, q1324, rfl, by decide, by decide, by decide +kernel⟩
theorem sJ24_7_16 : SiU RJ24 7 RJ24 "java/util/TreeMap$PrivateEntryIterator" ⟨"java/util/TreeMap$KeyIterator", "nextEntry", "()Ljava/util/TreeMap$Entry;"⟩ mJ22_nextEntry 0 := ⟨rfl, by decide, lw_app (lw_in _ [1472, 1473, 1474, 1461, 88] (by decide +kernel) (by decide +kernel)) (lw_meth q1462), rfl, by decide, by decide, by decide +kernel⟩
theorem sJ25_15 : SiV RJ25 15 mJ1_keyIterator 0 := ⟨rfl, by decide, lw_V q1347 q1348 q1349 q64 q1350, by decide, by decide, by decide +kernel⟩
theorem sJ25_1 : SiI RJ25 1 mJ20_init 0 := ⟨rfl, by decide, rfl, lw_meth q1298, q86, Or.inl q1388, q1297, rfl, by decide, by decide, by decide +kernel⟩
theorem sJ34_31 : SiV RJ34 31 mJ34_checkForComodification 0 := ⟨rfl, by decide, lw_V q1423 q1424 q1425 q101 q1426, by decide, by decide, by decide +kernel⟩
theorem sJ38_34_10 : SiF RJ38 34 RJ1 ⟨"java/util/NavigableMap", "navigableKeySet", "()Ljava/util/NavigableSet;"⟩ mJ1_navigableKeySet 0 := ⟨rfl, by decide, lw_app (lw_in _ [1374, 1378, 1380, 64] (by decide +kernel) (by decide +kernel)) (lw_meth q1382), List.mem_of_getElem? (i := 7) rfl, by decide, by decide, by decide +kernel⟩
theorem sJ38_40_17 : SiF RJ38 40 RJ25 ⟨"java/util/NavigableSet", "iterator", "()Ljava/util/Iterator;"⟩ mJ25_iterator 0 := ⟨rfl, by decide, lw_app (lw_in _ [1394, 1398, 1343, 91] (by decide +kernel) (by decide +kernel)) (lw_meth q1345), List.mem_of_getElem? (i := 8) rfl, by decide, by decide, by decide +kernel⟩
theorem sJ38_15 : SiI RJ38 15 mJ1_init 0 := ⟨rfl, by decide, rfl, lw_meth q168, q64, Or.inl q1748, q167, rfl, by decide, by decide, by decide +kernel⟩
theorem sJ38_16 : SiI RJ38 16 mJ38_init_2 1 := ⟨rfl, by decide, rfl, lw_meth q1751, q106, Or.inl q1749, q1750, rfl, by decide, by decide, by decide +kernel⟩
theorem sJ38_1 : SiI RJ38 1 mJ20_init 0 := ⟨rfl, by decide, rfl, lw_meth q1298, q86, Or.inl q1752, q1297, rfl, by decide, by decide, by decide +kernel⟩
theorem sJ10_1 : SiI RJ10 1 mJ9_init 0 := ⟨rfl, by decide, rfl, lw_meth q358, q73, Or.inl q356, q357, rfl, by decide, by decide, by decide +kernel⟩
theorem sJ10_131 : SiV RJ10 131 mJ10_add_2 3 := ⟨rfl, by decide, lw_V q848 q850 qs6 q74 q851, by decide, by decide, by decide +kernel⟩
theorem sJ10_129 : SiV RJ10 129 mJ10_grow 0 := ⟨rfl, by decide, lw_V q852 q854 qs7 q74 q855, by decide, by decide, by decide +kernel⟩
theorem sJ10_69 : SiV RJ10 69 mJ10_grow_2 1 := ⟨rfl, by decide, lw_V q856 q858 qs8 q74 q859, by decide, by decide, by decide +kernel⟩
theorem sJ10_73 : SiS RJ10 73 mJ31_newLength 3 := ⟨rfl, by decide, lw_S q860 q517 q97 q518, by decide, by decide, by decide +kernel⟩
theorem sJ10_66 : SiS RJ10 66 mJ36_copyOf_2 2 := ⟨rfl, by decide, lw_S q861 q862 q103 q863, by decide, by decide, by decide +kernel⟩
theorem sJ10_79 : SiS RJ10 79 mJ30_max 2 := ⟨rfl, by decide, lw_S q903 q520 q96 q521, by decide, by decide, by decide +kernel⟩
theorem sJ10_269 : SiI RJ10 269 mJ34_init 1 := ⟨rfl, by decide, rfl, lw_meth q1636, q101, Or.inl q1634, q1635, rfl, by decide, by decide, by decide +kernel⟩
theorem sJ10_118 : SiS RJ10 118 mJ17_checkIndex 2 := ⟨rfl, by decide, lw_S q1887 q1888 q82 q1889, by decide, by decide, by decide +kernel⟩
theorem sJ10_144 : SiV RJ10 144 mJ10_fastRemove 2 := ⟨rfl, by decide, lw_V q1891 q1893 qs23 q74 q1894, by decide, by decide, by decide +kernel⟩
theorem sJ11_26 : SiS RJ11 26 mJ14_newBytesFor 1 := ⟨rfl, by decide, lw_S q388 q389 q78 q390, by decide, by decide, by decide +kernel⟩
theorem sJ11_131 : SiI RJ11 131 mJ39_init 1 := ⟨rfl, by decide, rfl, lw_meth q491, q109, Or.inl q489, q490, rfl, by decide, by decide, by decide +kernel⟩
theorem sJ11_83_13 : SiU RJ11 83 RJ12 "java/lang/AbstractStringBuilder" ⟨"java/lang/AbstractStringBuilder", "isLatin1", "()Z"⟩ mJ11_isLatin1 0 := ⟨rfl, by decide, lw_app (lw_in _ [543, 545, 546, 544, 75] (by decide +kernel) (by decide +kernel)) (lw_meth q547), rfl, by decide, by decide, by decide +kernel⟩
theorem sJ11_133 : SiS RJ11 133 mJ19_fillNull 3 := ⟨rfl, by decide, lw_S q725 q726 q85 q727, by decide, by decide, by decide +kernel⟩
theorem sJ11_137 : SiS RJ11 137 mJ14_fillNull 3 := ⟨rfl, by decide, lw_S q760 q761 q78 q762, by decide, by decide, by decide +kernel⟩
theorem sJ11_108 : SiS RJ11 108 mJ36_copyOf 2 := ⟨rfl, by decide, lw_S q527 q528 q103 q529, by decide, by decide, by decide +kernel⟩
theorem sJ11_114 : SiS RJ11 114 mJ31_newLength 3 := ⟨rfl, by decide, lw_S q516 q517 q97 q518, by decide, by decide, by decide +kernel⟩
theorem sJ11_138 : SiS RJ11 138 mJ30_min 2 := ⟨rfl, by decide, lw_S q810 q538 q96 q539, by decide, by decide, by decide +kernel⟩
theorem sJ11_144 : SiS RJ11 144 mJ13_checkIndex 2 := ⟨rfl, by decide, lw_S q811 q812 q77 q813, by decide, by decide, by decide +kernel⟩
theorem sJ11_148 : SiS RJ11 148 mJ14_getChar 2 := ⟨rfl, by decide, lw_S q817 q697 q78 q698, by decide, by decide, by decide +kernel⟩
theorem sJ11_87 : SiS RJ11 87 mJ19_compareTo_2 4 := ⟨rfl, by decide, lw_S q1187 q1041 q85 q1042, by decide, by decide, by decide +kernel⟩
theorem sJ11_93 : SiS RJ11 93 mJ14_compareTo_2 4 := ⟨rfl, by decide, lw_S q1188 q1189 q78 q1190, by decide, by decide, by decide +kernel⟩
theorem sJ11_94 : SiS RJ11 94 mJ19_compareToUTF16_2 4 := ⟨rfl, by decide, lw_S q1197 q1198 q85 q1199, by decide, by decide, by decide +kernel⟩
theorem sJ11_97 : SiS RJ11 97 mJ14_compareToLatin1_2 4 := ⟨rfl, by decide, lw_S q1201 q1202 q78 q1203, by decide, by decide, by decide +kernel⟩
theorem sJ12_1 : SiI RJ12 1 mJ11_init 1 := ⟨rfl, by decide, rfl, lw_meth q384, q75, Or.inl q382, q383, rfl, by decide, by decide, by decide +kernel⟩
theorem sJ12_343 : SiSU RJ12 343 mJ11_length 0 := ⟨rfl, by decide, lw_app (lw_in _ [477, 2511, 408, 478, 75] (by decide +kernel) (by decide +kernel)) (lw_meth q479), by decide, by decide +kernel⟩
theorem sJ12_333 : SiSU RJ12 333 mJ11_setLength 1 := ⟨rfl, by decide, lw_app (lw_in _ [484, 2512, 408, 485, 75] (by decide +kernel) (by decide +kernel)) (lw_meth q486), by decide, by decide +kernel⟩
theorem sJ12_29 : SiSU RJ12 29 mJ11_append 1 := ⟨rfl, by decide, lw_app (lw_in _ [501, 2513, 408, 502, 75] (by decide +kernel) (by decide +kernel)) (lw_meth q503), by decide, by decide +kernel⟩
theorem sJ12_53 : SiSU RJ12 53 mJ11_append_2 1 := ⟨rfl, by decide, lw_app (lw_in _ [621, 2520, 408, 622, 75] (by decide +kernel) (by decide +kernel)) (lw_meth q623), by decide, by decide +kernel⟩
theorem sJ12_137 : SiI RJ12 137 mJ13_init 1 := ⟨rfl, by decide, rfl, lw_meth q650, q77, Or.inl q648, q649, rfl, by decide, by decide, by decide +kernel⟩
theorem sJ12_329 : SiSU RJ12 329 mJ11_charAt 1 := ⟨rfl, by decide, lw_app (lw_in _ [807, 2522, 408, 808, 75] (by decide +kernel) (by decide +kernel)) (lw_meth q809), by decide, by decide +kernel⟩
theorem sJ12_346 : SiV RJ12 346 mJ12_compareTo_2 1 := ⟨rfl, by decide, lw_V q1180 q1181 q1182 q76 q1183, by decide, by decide, by decide +kernel⟩
theorem sJ12_13 : SiSU RJ12 13 mJ11_compareTo 1 := ⟨rfl, by decide, lw_app (lw_in _ [1184, 2523, 408, 1185, 75] (by decide +kernel) (by decide +kernel)) (lw_meth q1186), by decide, by decide +kernel⟩
theorem sJ12_50 : SiSU RJ12 50 mJ11_append_3 1 := ⟨rfl, by decide, lw_app (lw_in _ [2148, 2528, 408, 2149, 75] (by decide +kernel) (by decide +kernel)) (lw_meth q2150), by decide, by decide +kernel⟩
theorem sJ13_1059 : SiS RJ13 1059 mJ18_checkIndex 3 := ⟨rfl, by decide, lw_S q814 q815 q83 q816, by decide, by decide, by decide +kernel⟩
theorem sJ13_586 : SiS RJ13 586 mJ19_compareTo 2 := ⟨rfl, by decide, lw_S q1037 q1038 q85 q1039, by decide, by decide, by decide +kernel⟩
theorem sJ13_590 : SiS RJ13 590 mJ14_compareTo 2 := ⟨rfl, by decide, lw_S q1151 q1152 q78 q1153, by decide, by decide, by decide +kernel⟩
theorem sJ13_591 : SiS RJ13 591 mJ19_compareToUTF16 2 := ⟨rfl, by decide, lw_S q1158 q1159 q85 q1160, by decide, by decide, by decide +kernel⟩
theorem sJ13_594 : SiS RJ13 594 mJ14_compareToLatin1 2 := ⟨rfl, by decide, lw_S q1169 q1170 q78 q1171, by decide, by decide, by decide +kernel⟩
theorem sJ13_1062 : SiS RJ13 1062 mJ18_checkFromToIndex 4 := ⟨rfl, by decide, lw_S q562 q563 q83 q564, by decide, by decide, by decide +kernel⟩
theorem sJ17_14_0 : SiU RJ17 14 RX1 "java/lang/Object" ⟨"java/lang/Object", "equals", "(Ljava/lang/Object;)Z"⟩ mJ40_equals 1 := ⟨rfl, by decide, lw_app (lw_in _ [1248, 1250, 1251, 1249, 2530] (by decide +kernel) (by decide +kernel)) (lw_meth q1281), rfl, by decide, by decide, by decide +kernel⟩
theorem sJ17_14_1 : SiU RJ17 14 RX2 "java/lang/Object" ⟨"java/lang/Object", "equals", "(Ljava/lang/Object;)Z"⟩ mJ40_equals 1 := ⟨rfl, by decide, lw_app (lw_in _ [1248, 1250, 1255, 1249, 2530] (by decide +kernel) (by decide +kernel)) (lw_meth q1281), rfl, by decide, by decide, by decide +kernel⟩
theorem sJ17_14_2 : SiU RJ17 14 RX3 "java/lang/Object" ⟨"java/lang/Object", "equals", "(Ljava/lang/Object;)Z"⟩ mJ40_equals 1 := ⟨rfl, by decide, lw_app (lw_in _ [1248, 1250, 1259, 1249, 2530] (by decide +kernel) (by decide +kernel)) (lw_meth q1281), rfl, by decide, by decide, by decide +kernel⟩
theorem sJ17_14_3 : SiU RJ17 14 RX4 "java/lang/Object" ⟨"java/lang/Object", "equals", "(Ljava/lang/Object;)Z"⟩ mJ40_equals 1 := ⟨rfl, by decide, lw_app (lw_in _ [1248, 1250, 1253, 1249, 2530] (by decide +kernel) (by decide +kernel)) (lw_meth q1281), rfl, by decide, by decide, by decide +kernel⟩
theorem sJ17_14_4 : SiU RJ17 14 RX5 "java/lang/Object" ⟨"java/lang/Object", "equals", "(Ljava/lang/Object;)Z"⟩ mJ40_equals 1 := ⟨rfl, by decide, lw_app (lw_in _ [1248, 1250, 1257, 1249, 2530] (by decide +kernel) (by decide +kernel)) (lw_meth q1281), rfl, by decide, by decide, by decide +kernel⟩
theorem sJ17_14_5 : SiU RJ17 14 RX6 "java/lang/Object" ⟨"java/lang/Object", "equals", "(Ljava/lang/Object;)Z"⟩ mJ40_equals 1 := ⟨rfl, by decide, lw_app (lw_in _ [1248, 1250, 1260, 1249, 2530] (by decide +kernel) (by decide +kernel)) (lw_meth q1281), rfl, by decide, by decide, by decide +kernel⟩
theorem sJ17_14_6 : SiU RJ17 14 RX7 "java/lang/Object" ⟨"java/lang/Object", "equals", "(Ljava/lang/Object;)Z"⟩ mJ40_equals 1 := ⟨rfl, by decide, lw_app (lw_in _ [1248, 1250, 1258, 1249, 2530] (by decide +kernel) (by decide +kernel)) (lw_meth q1281), rfl, by decide, by decide, by decide +kernel⟩
theorem sJ17_14_7 : SiU RJ17 14 RX8 "java/lang/Object" ⟨"java/lang/Object", "equals", "(Ljava/lang/Object;)Z"⟩ mJ40_equals 1 := ⟨rfl, by decide, lw_app (lw_in _ [1248, 1250, 1254, 1249, 2530] (by decide +kernel) (by decide +kernel)) (lw_meth q1281), rfl, by decide, by decide, by decide +kernel⟩
theorem sJ17_14_8 : SiU RJ17 14 RX9 "java/lang/Object" ⟨"java/lang/Object", "equals", "(Ljava/lang/Object;)Z"⟩ mJ40_equals 1 := ⟨rfl, by decide, lw_app (lw_in _ [1248, 1250, 1256, 1249, 2530] (by decide +kernel) (by decide +kernel)) (lw_meth q1281), rfl, by decide, by decide, by decide +kernel⟩
theorem sJ17_14_9 : SiU RJ17 14 RX10 "java/lang/Object" ⟨"java/lang/Object", "equals", "(Ljava/lang/Object;)Z"⟩ mJ40_equals 1 := ⟨rfl, by decide, lw_app (lw_in _ [1248, 1250, 1252, 1249, 2530] (by decide +kernel) (by decide +kernel)) (lw_meth q1281), rfl, by decide, by decide, by decide +kernel⟩
theorem sJ17_14_13 : SiU RJ17 14 RJ12 "java/lang/Object" ⟨"java/lang/Object", "equals", "(Ljava/lang/Object;)Z"⟩ mJ40_equals 1 := ⟨rfl, by decide, lw_app (lw_in _ [1248, 1250, 1278, 1249, 2530] (by decide +kernel) (by decide +kernel)) (lw_meth q1281), rfl, by decide, by decide, by decide +kernel⟩
theorem sJ17_14_22 : SiO RJ17 14 RJ27 "java/lang/Object" ⟨"java/lang/Object", "equals", "(Ljava/lang/Object;)Z"⟩ mJ27_equals 1 := ⟨rfl, by decide, lw_app (lw_in _ [1248, 1250, 1249, 1265, 1266, 93] (by decide +kernel) (by decide +kernel)) (lw_meth q1267), ⟨_, _, _, q1281⟩, by decide, by decide, by decide +kernel⟩
theorem sJ17_105 : SiS RJ17 105 mJ18_checkIndex 3 := ⟨rfl, by decide, lw_S q1890 q815 q83 q816, by decide, by decide, by decide +kernel⟩
theorem sJ19_240 : SiS RJ19 240 mJ14_inflate 5 := ⟨rfl, by decide, lw_S q599 q600 q78 q601, by decide, by decide, by decide +kernel⟩
theorem sJ19_236 : SiS RJ19 236 mJ36_fill 4 := ⟨rfl, by decide, lw_S q728 q729 q103 q730, by decide, by decide, by decide +kernel⟩
theorem sJ19_34 : SiS RJ19 34 mJ19_compareTo_2 4 := ⟨rfl, by decide, lw_S q1040 q1041 q85 q1042, by decide, by decide, by decide +kernel⟩
theorem sJ19_38 : SiS RJ19 38 mJ30_min 2 := ⟨rfl, by decide, lw_S q1043 q538 q96 q539, by decide, by decide, by decide +kernel⟩
theorem sJ19_44 : SiS RJ19 44 mJ31_mismatch 3 := ⟨rfl, by decide, lw_S q1044 q1045 q97 q1046, by decide, by decide, by decide +kernel⟩
theorem sJ19_50 : SiS RJ19 50 mJ19_getChar 2 := ⟨rfl, by decide, lw_S q1148 q1149 q85 q1150, by decide, by decide, by decide +kernel⟩
theorem sJ19_54 : SiS RJ19 54 mJ19_length 1 := ⟨rfl, by decide, lw_S q1161 q1162 q85 q1163, by decide, by decide, by decide +kernel⟩
theorem sJ19_58 : SiS RJ19 58 mJ14_length 1 := ⟨rfl, by decide, lw_S q1164 q555 q78 q556, by decide, by decide, by decide +kernel⟩
theorem sJ19_59 : SiS RJ19 59 mJ19_compareToUTF16Values 4 := ⟨rfl, by decide, lw_S q1165 q1166 q85 q1167, by decide, by decide, by decide +kernel⟩
theorem sJ19_65 : SiS RJ19 65 mJ14_getChar 2 := ⟨rfl, by decide, lw_S q1168 q697 q78 q698, by decide, by decide, by decide +kernel⟩
theorem sJ19_62 : SiS RJ19 62 mJ13_checkOffset 2 := ⟨rfl, by decide, lw_S q1200 q1195 q77 q1196, by decide, by decide, by decide +kernel⟩
theorem sJ27_284 : SiV RJ27 284 mJ27_compareTo_2 1 := ⟨rfl, by decide, lw_V q1021 q1022 q1023 q93 q1024, by decide, by decide, by decide +kernel⟩
theorem sJ27_259 : SiS RJ27 259 mJ27_compare 2 := ⟨rfl, by decide, lw_S q1025 q991 q93 q992, by decide, by decide, by decide +kernel⟩
theorem sJ27_211 : SiV RJ27 211 mJ27_intValue 0 := ⟨rfl, by decide, lw_V q1268 q1269 q1270 q93 q1271, by decide, by decide, by decide +kernel⟩
theorem sJ27_199 : SiI RJ27 199 mJ27_init 1 := ⟨rfl, by decide, rfl, lw_meth q1767, q93, Or.inl q1765, q1766, rfl, by decide, by decide, by decide +kernel⟩
theorem sJ27_202 : SiI RJ27 202 mJ26_init 0 := ⟨rfl, by decide, rfl, lw_meth q1770, q92, Or.inl q1768, q1769, rfl, by decide, by decide, by decide +kernel⟩
theorem sJ31_194 : SiS RJ31 194 mJ30_max 2 := ⟨rfl, by decide, lw_S q519 q520 q96 q521, by decide, by decide, by decide +kernel⟩
theorem sJ31_201 : SiS RJ31 201 mJ31_hugeLength 2 := ⟨rfl, by decide, lw_S q523 q524 q97 q525, by decide, by decide, by decide +kernel⟩
theorem sJ31_122 : SiS RJ31 122 mJ31_vectorizedMismatch 6 := ⟨rfl, by decide, lw_S q1051 q1052 q97 q1053, by decide, by decide, by decide +kernel⟩
theorem sJ31_40 : SiS RJ31 40 mJ33_numberOfLeadingZeros 1 := ⟨rfl, by decide, lw_S q1112 q1113 q100 q1114, by decide, by decide, by decide +kernel⟩
theorem sJ31_49 : SiS RJ31 49 mJ33_numberOfTrailingZeros 1 := ⟨rfl, by decide, lw_S q1121 q1122 q100 q1123, by decide, by decide, by decide +kernel⟩
theorem sJ31_58 : SiS RJ31 58 mJ27_numberOfLeadingZeros 1 := ⟨rfl, by decide, lw_S q1146 q1116 q93 q1117, by decide, by decide, by decide +kernel⟩
theorem sJ31_11 : SiS RJ31 11 mJ27_numberOfTrailingZeros 1 := ⟨rfl, by decide, lw_S q1147 q1125 q93 q1126, by decide, by decide, by decide +kernel⟩
theorem sJ36_304 : SiS RJ36 304 mJ30_min 2 := ⟨rfl, by decide, lw_S q537 q538 q96 q539, by decide, by decide, by decide +kernel⟩
theorem sJ36_339 : SiS RJ36 339 mJ36_copyOfRangeByte 3 := ⟨rfl, by decide, lw_S q665 q666 q103 q667, by decide, by decide, by decide +kernel⟩
theorem sJ36_343 : SiS RJ36 343 mJ36_checkLength 2 := ⟨rfl, by decide, lw_S q668 q669 q103 q670, by decide, by decide, by decide +kernel⟩
theorem sJ36_47 : SiI RJ36 47 mJ12_init_2 0 := ⟨rfl, by decide, rfl, lw_meth q495, q76, Or.inl q673, q494, rfl, by decide, by decide, by decide +kernel⟩
theorem sJ36_54 : SiV RJ36 54 mJ12_append_2 1 := ⟨rfl, by decide, lw_V q674 q618 q619 q76 q620, by decide, by decide, by decide +kernel⟩
theorem sJ36_50 : SiV RJ36 50 mJ12_append 1 := ⟨rfl, by decide, lw_V q676 q498 q499 q76 q500, by decide, by decide, by decide +kernel⟩
theorem sJ36_61 : SiV RJ36 61 mJ12_toString 0 := ⟨rfl, by decide, lw_V q677 q643 q644 q76 q645, by decide, by decide, by decide +kernel⟩
theorem sJ36_65 : SiI RJ36 65 mJ8_init_2 1 := ⟨rfl, by decide, rfl, lw_meth q680, q72, Or.inl q678, q679, rfl, by decide, by decide, by decide +kernel⟩
theorem sJ36_13 : SiS RJ36 13 mJ36_rangeCheck 3 := ⟨rfl, by decide, lw_S q731 q732 q103 q733, by decide, by decide, by decide +kernel⟩
theorem sJ36_70 : SiI RJ36 70 mJ16_init 1 := ⟨rfl, by decide, rfl, lw_meth q750, q81, Or.inl q748, q749, rfl, by decide, by decide, by decide +kernel⟩
theorem sJ36_300 : SiS RJ36 300 mJ36_copyOf_3 3 := ⟨rfl, by decide, lw_S q898 q899 q103 q900, by decide, by decide, by decide +kernel⟩
theorem sJ9_1 : SiI RJ9 1 mJ2_init 0 := ⟨rfl, by decide, rfl, lw_meth q219, q65, Or.inl q359, q218, rfl, by decide, by decide, by decide +kernel⟩
theorem sX0_92 : SiI RX0 92 mX1_init 0 := ⟨rfl, by decide, rfl, lw_meth q116, q59, Or.inl q114, q115, rfl, by decide, by decide, by decide +kernel⟩
theorem sX0_95 : SiI RX0 95 mX6_init 0 := ⟨rfl, by decide, rfl, lw_meth q2189, q79, Or.inl q2187, q2188, rfl, by decide, by decide, by decide +kernel⟩
theorem sX0_96 : SiSW RX0 96 mX0_setParent 4 := ⟨rfl, by decide, lw_SW q1859 q1860 q58 q1861, by decide, by decide, by decide +kernel⟩
theorem sX0_101 : SiV RX0 101 mX6_setParent 2 := ⟨rfl, by decide, lw_V q2237 q2238 q2239 q79 q2240, by decide, by decide, by decide +kernel⟩
theorem sX0_102 : SiV RX0 102 mX6_thrown 0 := ⟨rfl, by decide, lw_V q2233 q2234 q2235 q79 q2236, by decide, by decide, by decide +kernel⟩
theorem sX0_105 : SiSW RX0 105 mX0_setAges 5 := ⟨rfl, by decide, lw_SW q1905 q1906 q58 q1907, by decide, by decide, by decide +kernel⟩
theorem sX0_108 : SiV RX0 108 mX6_setAges 3 := ⟨rfl, by decide, lw_V q2255 q2256 q2257 q79 q2258, by decide, by decide, by decide +kernel⟩
theorem sX0_109 : SiSW RX0 109 mX0_setAnswer 5 := ⟨rfl, by decide, lw_SW q1912 q1913 q58 q1914, by decide, by decide, by decide +kernel⟩
theorem sX0_111 : SiV RX0 111 mX6_setAnswer 3 := ⟨rfl, by decide, lw_V q2265 q2266 q2267 q79 q2268, by decide, by decide, by decide +kernel⟩
theorem sX0_112 : SiSW RX0 112 mX0_setReference 5 := ⟨rfl, by decide, lw_SW q1923 q1924 q58 q1925, by decide, by decide, by decide +kernel⟩
theorem sX0_114 : SiV RX0 114 mX6_setReference 3 := ⟨rfl, by decide, lw_V q2280 q2281 q2282 q79 q2283, by decide, by decide, by decide +kernel⟩
theorem sX0_115 : SiSW RX0 115 mX0_takeAway 3 := ⟨rfl, by decide, lw_SW q1930 q1931 q58 q1932, by decide, by decide, by decide +kernel⟩
theorem sX0_118 : SiV RX0 118 mX6_takeAway 1 := ⟨rfl, by decide, lw_V q2284 q2285 q2286 q79 q2287, by decide, by decide, by decide +kernel⟩
theorem sX0_119 : SiSW RX0 119 mX0_solve 3 := ⟨rfl, by decide, lw_SW q1956 q1957 q58 q1958, by decide, by decide, by decide +kernel⟩
theorem sX0_121 : SiV RX0 121 mX6_solve 1 := ⟨rfl, by decide, lw_V q2288 q2289 q2290 q79 q2291, by decide, by decide, by decide +kernel⟩
theorem sX0_122 : SiSW RX0 122 mX0_forget 3 := ⟨rfl, by decide, lw_SW q1963 q1964 q58 q1965, by decide, by decide, by decide +kernel⟩
theorem sX0_124 : SiV RX0 124 mX6_forget 1 := ⟨rfl, by decide, lw_V q2312 q2313 q2314 q79 q2315, by decide, by decide, by decide +kernel⟩
theorem sX0_125 : SiSW RX0 125 mX0_pass 3 := ⟨rfl, by decide, lw_SW q2010 q2011 q58 q2012, by decide, by decide, by decide +kernel⟩
theorem sX0_127 : SiV RX0 127 mX6_pass 1 := ⟨rfl, by decide, lw_V q2320 q2321 q2322 q79 q2323, by decide, by decide, by decide +kernel⟩
theorem sX0_128 : SiV RX0 128 mX1_time 0 := ⟨rfl, by decide, lw_V q420 q421 q422 q59 q423, by decide, by decide, by decide +kernel⟩
theorem sX0_131 : SiV RX0 131 mX6_time 0 := ⟨rfl, by decide, lw_V q2328 q2329 q2330 q79 q2331, by decide, by decide, by decide +kernel⟩
theorem sX0_132 : SiSW RX0 132 mX0_parentOf 3 := ⟨rfl, by decide, lw_SW q2056 q2057 q58 q2058, by decide, by decide, by decide +kernel⟩
theorem sX0_134 : SiV RX0 134 mX6_parentOf 1 := ⟨rfl, by decide, lw_V q2336 q2337 q2338 q79 q2339, by decide, by decide, by decide +kernel⟩
theorem sX0_135 : SiSW RX0 135 mX0_depthOf 3 := ⟨rfl, by decide, lw_SW q2063 q2064 q58 q2065, by decide, by decide, by decide +kernel⟩
theorem sX0_137 : SiV RX0 137 mX6_depthOf 1 := ⟨rfl, by decide, lw_V q2344 q2345 q2346 q79 q2347, by decide, by decide, by decide +kernel⟩
theorem sX0_138 : SiSW RX0 138 mX0_kindOf 3 := ⟨rfl, by decide, lw_SW q2070 q2071 q58 q2072, by decide, by decide, by decide +kernel⟩
theorem sX0_140 : SiV RX0 140 mX6_kindOf 1 := ⟨rfl, by decide, lw_V q2352 q2353 q2354 q79 q2355, by decide, by decide, by decide +kernel⟩
theorem sX0_141 : SiSW RX0 141 mX0_valueOf 3 := ⟨rfl, by decide, lw_SW q2077 q2078 q58 q2079, by decide, by decide, by decide +kernel⟩
theorem sX0_143 : SiV RX0 143 mX6_valueOf 1 := ⟨rfl, by decide, lw_V q2360 q2361 q2362 q79 q2363, by decide, by decide, by decide +kernel⟩
theorem sX0_144 : SiSW RX0 144 mX0_truthOf 3 := ⟨rfl, by decide, lw_SW q2084 q2085 q58 q2086, by decide, by decide, by decide +kernel⟩
theorem sX0_146 : SiV RX0 146 mX6_truthOf 1 := ⟨rfl, by decide, lw_V q2364 q2365 q2366 q79 q2367, by decide, by decide, by decide +kernel⟩
theorem sX0_147 : SiSW RX0 147 mX0_rememberedOf 3 := ⟨rfl, by decide, lw_SW q2091 q2092 q58 q2093, by decide, by decide, by decide +kernel⟩
theorem sX0_149 : SiV RX0 149 mX6_rememberedOf 1 := ⟨rfl, by decide, lw_V q2372 q2373 q2374 q79 q2375, by decide, by decide, by decide +kernel⟩
theorem sX0_150 : SiSW RX0 150 mX0_ticksLeftOf 3 := ⟨rfl, by decide, lw_SW q2095 q2096 q58 q2097, by decide, by decide, by decide +kernel⟩
theorem sX0_152 : SiV RX0 152 mX6_ticksLeftOf 1 := ⟨rfl, by decide, lw_V q2376 q2377 q2378 q79 q2379, by decide, by decide, by decide +kernel⟩
theorem sX0_153 : SiSW RX0 153 mX0_referralLeft 3 := ⟨rfl, by decide, lw_SW q2099 q2100 q58 q2101, by decide, by decide, by decide +kernel⟩
theorem sX0_155 : SiV RX0 155 mX6_referralLeft 1 := ⟨rfl, by decide, lw_V q2384 q2385 q2386 q79 q2387, by decide, by decide, by decide +kernel⟩
theorem sX0_156 : SiV RX0 156 mX1_remembered 0 := ⟨rfl, by decide, lw_V q424 q425 q426 q59 q427, by decide, by decide, by decide +kernel⟩
theorem sX0_159 : SiV RX0 159 mX6_remembered 0 := ⟨rfl, by decide, lw_V q2388 q2389 q2390 q79 q2391, by decide, by decide, by decide +kernel⟩
theorem sX0_160 : SiV RX0 160 mX1_rememberedByAccount 0 := ⟨rfl, by decide, lw_V q432 q433 q434 q59 q435, by decide, by decide, by decide +kernel⟩
theorem sX0_163 : SiV RX0 163 mX6_rememberedByAccount 0 := ⟨rfl, by decide, lw_V q2396 q2397 q2398 q79 q2399, by decide, by decide, by decide +kernel⟩
theorem sX0_164 : SiV RX0 164 mX1_ticksUntilForgetting 0 := ⟨rfl, by decide, lw_V q436 q437 q438 q59 q439, by decide, by decide, by decide +kernel⟩
theorem sX0_167 : SiV RX0 167 mX6_ticksUntilForgetting 0 := ⟨rfl, by decide, lw_V q2400 q2401 q2402 q79 q2403, by decide, by decide, by decide +kernel⟩
theorem sX0_168 : SiSW RX0 168 mX0_isOutOfDate 3 := ⟨rfl, by decide, lw_SW q2103 q2104 q58 q2105, by decide, by decide, by decide +kernel⟩
theorem sX0_170 : SiV RX0 170 mX6_isOutOfDate 1 := ⟨rfl, by decide, lw_V q2411 q2412 q2413 q79 q2414, by decide, by decide, by decide +kernel⟩
theorem sX0_171 : SiV RX0 171 mX1_solved 0 := ⟨rfl, by decide, lw_V q449 q450 q451 q59 q452, by decide, by decide, by decide +kernel⟩
theorem sX0_174 : SiV RX0 174 mX6_solved 0 := ⟨rfl, by decide, lw_V q2419 q2420 q2421 q79 q2422, by decide, by decide, by decide +kernel⟩
theorem sX0_175 : SiV RX0 175 mX1_questions 0 := ⟨rfl, by decide, lw_V q453 q454 q455 q59 q456, by decide, by decide, by decide +kernel⟩
theorem sX0_178 : SiV RX0 178 mX6_questions 0 := ⟨rfl, by decide, lw_V q2423 q2424 q2425 q79 q2426, by decide, by decide, by decide +kernel⟩
theorem sX0_179 : SiV RX0 179 mX1_hits 0 := ⟨rfl, by decide, lw_V q461 q462 q463 q59 q464, by decide, by decide, by decide +kernel⟩
theorem sX0_182 : SiV RX0 182 mX6_hits 0 := ⟨rfl, by decide, lw_V q2427 q2428 q2429 q79 q2430, by decide, by decide, by decide +kernel⟩
theorem sX0_183 : SiSW RX0 183 mX0_questionsTo 3 := ⟨rfl, by decide, lw_SW q2107 q2108 q58 q2109, by decide, by decide, by decide +kernel⟩
theorem sX0_185 : SiV RX0 185 mX6_questionsTo 1 := ⟨rfl, by decide, lw_V q2431 q2432 q2433 q79 q2434, by decide, by decide, by decide +kernel⟩
theorem sX0_186 : SiV RX0 186 mX1_meanQuestions 0 := ⟨rfl, by decide, lw_V q465 q466 q467 q59 q468, by decide, by decide, by decide +kernel⟩
theorem sX0_190 : SiV RX0 190 mX6_meanQuestions 0 := ⟨rfl, by decide, lw_V q2435 q2436 q2437 q79 q2438, by decide, by decide, by decide +kernel⟩
theorem sX0_191 : SiSW RX0 191 mX0_wouldSolve 3 := ⟨rfl, by decide, lw_SW q2114 q2115 q58 q2116, by decide, by decide, by decide +kernel⟩
theorem sX0_193 : SiV RX0 193 mX6_wouldSolve 1 := ⟨rfl, by decide, lw_V q2439 q2440 q2441 q79 q2442, by decide, by decide, by decide +kernel⟩
theorem sX0_194 : SiSW RX0 194 mX0_costOf 3 := ⟨rfl, by decide, lw_SW q2121 q2122 q58 q2123, by decide, by decide, by decide +kernel⟩
theorem sX0_196 : SiV RX0 196 mX6_costOf 1 := ⟨rfl, by decide, lw_V q2447 q2448 q2449 q79 q2450, by decide, by decide, by decide +kernel⟩
theorem sX0_197 : SiSW RX0 197 mX0_ticksUntilTruth 3 := ⟨rfl, by decide, lw_SW q2128 q2129 q58 q2130, by decide, by decide, by decide +kernel⟩
theorem sX0_199 : SiV RX0 199 mX6_ticksUntilTruth 1 := ⟨rfl, by decide, lw_V q2455 q2456 q2457 q79 q2458, by decide, by decide, by decide +kernel⟩
theorem sX0_200 : SiSW RX0 200 mX0_append 3 := ⟨rfl, by decide, lw_SW q2137 q2138 q58 q2139, by decide, by decide, by decide +kernel⟩
theorem sX0_202 : SiV RX0 202 mX6_append 1 := ⟨rfl, by decide, lw_V q2463 q2464 q2465 q79 q2466, by decide, by decide, by decide +kernel⟩
theorem sX0_203 : SiV RX0 203 mX1_clearText 0 := ⟨rfl, by decide, lw_V q469 q470 q471 q59 q472, by decide, by decide, by decide +kernel⟩
theorem sX0_206 : SiV RX0 206 mX6_clearText 0 := ⟨rfl, by decide, lw_V q2467 q2468 q2469 q79 q2470, by decide, by decide, by decide +kernel⟩
theorem sX0_207 : SiV RX0 207 mX1_firstError 0 := ⟨rfl, by decide, lw_V q764 q765 q766 q59 q767, by decide, by decide, by decide +kernel⟩
theorem sX0_210 : SiV RX0 210 mX6_firstError 0 := ⟨rfl, by decide, lw_V q2471 q2472 q2473 q79 q2474, by decide, by decide, by decide +kernel⟩
theorem sX0_211 : SiSW RX0 211 mX0_runActs 2 := ⟨rfl, by decide, lw_SW q2161 q2162 q58 q2163, by decide, by decide, by decide +kernel⟩
theorem sX0_214 : SiV RX0 214 mX6_runActs 0 := ⟨rfl, by decide, lw_V q2491 q2492 q2493 q79 q2494, by decide, by decide, by decide +kernel⟩
theorem sX0_215 : SiSW RX0 215 mX0_undo 2 := ⟨rfl, by decide, lw_SW q2174 q2175 q58 q2176, by decide, by decide, by decide +kernel⟩
theorem sX0_217 : SiV RX0 217 mX6_undo 0 := ⟨rfl, by decide, lw_V q2499 q2500 q2501 q79 q2502, by decide, by decide, by decide +kernel⟩
theorem sX0_218 : SiV RX0 218 mX1_digest 0 := ⟨rfl, by decide, lw_V q905 q906 q907 q59 q908, by decide, by decide, by decide +kernel⟩
theorem sX0_222 : SiV RX0 222 mX6_digest 0 := ⟨rfl, by decide, lw_V q2503 q2504 q2505 q79 q2506, by decide, by decide, by decide +kernel⟩
theorem fJ1_7_10 : FL RJ1 7 10 4 := ⟨RJ1, TJ1, 9, rfl, by decide, Or.inl ⟨_, q175, Or.inl rfl⟩⟩
theorem gJ1_7_10 {Y : MY} (hc : (yN Y).cls = RJ1) : FW Y 7 10 4 := ⟨RJ1, TJ1, 9, rfl, by decide, Or.inl ⟨rfl, by rw [hc]; exact Or.inl ⟨_, q175, Or.inl rfl⟩⟩⟩
theorem fJ1_13_10 : FL RJ1 13 10 5 := ⟨RJ1, TJ1, 9, rfl, by decide, Or.inl ⟨_, q176, Or.inl rfl⟩⟩
theorem gJ1_13_10 {Y : MY} (hc : (yN Y).cls = RJ1) : FW Y 13 10 5 := ⟨RJ1, TJ1, 9, rfl, by decide, Or.inl ⟨rfl, by rw [hc]; exact Or.inl ⟨_, q176, Or.inl rfl⟩⟩⟩
theorem fJ1_16_10 : FL RJ1 16 10 2 := ⟨RJ1, TJ1, 9, rfl, by decide, Or.inl ⟨_, q173, Or.inl rfl⟩⟩
theorem gJ1_16_10 {Y : MY} (hc : (yN Y).cls = RJ1) (hn : (yN Y).name = "<init>") : FW Y 16 10 2 := ⟨RJ1, TJ1, 9, rfl, by decide, Or.inr ⟨rfl, by rw [hc]; rfl, hn, by rw [hc]; exact q173⟩⟩
theorem fJ1_58_18 : FL RJ1 58 18 1 := ⟨RJ29, TJ29, 6, rfl, by decide, Or.inl ⟨_, q1505, Or.inl rfl⟩⟩
theorem gJ1_58_18 {Y : MY} (hc : (yN Y).cls = RJ1) : FW Y 58 18 1 := ⟨RJ29, TJ29, 6, rfl, by decide, Or.inl ⟨rfl, by rw [hc]; exact Or.inl ⟨_, q1505, Or.inl rfl⟩⟩⟩
theorem fJ1_101_10 : FL RJ1 101 10 3 := ⟨RJ1, TJ1, 9, rfl, by decide, Or.inl ⟨_, q174, Or.inl rfl⟩⟩
theorem gJ1_101_10 {Y : MY} (hc : (yN Y).cls = RJ1) : FW Y 101 10 3 := ⟨RJ1, TJ1, 9, rfl, by decide, Or.inl ⟨rfl, by rw [hc]; exact Or.inl ⟨_, q174, Or.inl rfl⟩⟩⟩
theorem fJ1_105_18 : FL RJ1 105 18 0 := ⟨RJ29, TJ29, 6, rfl, by decide, Or.inl ⟨_, q1503, Or.inl rfl⟩⟩
theorem gJ1_105_18 {Y : MY} (hc : (yN Y).cls = RJ1) : FW Y 105 18 0 := ⟨RJ29, TJ29, 6, rfl, by decide, Or.inl ⟨rfl, by rw [hc]; exact Or.inl ⟨_, q1503, Or.inl rfl⟩⟩⟩
theorem fJ1_111_18 : FL RJ1 111 18 2 := ⟨RJ29, TJ29, 6, rfl, by decide, Or.inl ⟨_, q1506, Or.inl rfl⟩⟩
theorem gJ1_111_18 {Y : MY} (hc : (yN Y).cls = RJ1) : FW Y 111 18 2 := ⟨RJ29, TJ29, 6, rfl, by decide, Or.inl ⟨rfl, by rw [hc]; exact Or.inl ⟨_, q1506, Or.inl rfl⟩⟩⟩
theorem fJ1_114_18 : FL RJ1 114 18 3 := ⟨RJ29, TJ29, 6, rfl, by decide, Or.inl ⟨_, q1507, Or.inl rfl⟩⟩
theorem gJ1_114_18 {Y : MY} (hc : (yN Y).cls = RJ1) : FW Y 114 18 3 := ⟨RJ29, TJ29, 6, rfl, by decide, Or.inl ⟨rfl, by rw [hc]; exact Or.inl ⟨_, q1507, Or.inl rfl⟩⟩⟩
theorem fJ1_124_18 : FL RJ1 124 18 4 := ⟨RJ29, TJ29, 6, rfl, by decide, Or.inl ⟨_, q1509, Or.inl rfl⟩⟩
theorem gJ1_124_18 {Y : MY} (hc : (yN Y).cls = RJ1) : FW Y 124 18 4 := ⟨RJ29, TJ29, 6, rfl, by decide, Or.inl ⟨rfl, by rw [hc]; exact Or.inl ⟨_, q1509, Or.inl rfl⟩⟩⟩
theorem fJ1_188_10 : FL RJ1 188 10 6 := ⟨RJ1, TJ1, 9, rfl, by decide, Or.inl ⟨_, q178, Or.inl rfl⟩⟩
theorem gJ1_188_10 {Y : MY} (hc : (yN Y).cls = RJ1) : FW Y 188 10 6 := ⟨RJ1, TJ1, 9, rfl, by decide, Or.inl ⟨rfl, by rw [hc]; exact Or.inl ⟨_, q178, Or.inl rfl⟩⟩⟩
theorem fJ1_191_10 : FL RJ1 191 10 7 := ⟨RJ1, TJ1, 9, rfl, by decide, Or.inl ⟨_, q179, Or.inl rfl⟩⟩
theorem gJ1_191_10 {Y : MY} (hc : (yN Y).cls = RJ1) : FW Y 191 10 7 := ⟨RJ1, TJ1, 9, rfl, by decide, Or.inl ⟨rfl, by rw [hc]; exact Or.inl ⟨_, q179, Or.inl rfl⟩⟩⟩
theorem fJ1_290_18 : FL RJ1 290 18 5 := ⟨RJ29, TJ29, 6, rfl, by decide, Or.inl ⟨_, q1511, Or.inl rfl⟩⟩
theorem gJ1_290_18 {Y : MY} (hc : (yN Y).cls = RJ1) : FW Y 290 18 5 := ⟨RJ29, TJ29, 6, rfl, by decide, Or.inl ⟨rfl, by rw [hc]; exact Or.inl ⟨_, q1511, Or.inl rfl⟩⟩⟩
theorem fJ10_9_12 : FL RJ10 9 12 1 := ⟨RJ10, TJ10, 3, rfl, by decide, Or.inl ⟨_, q362, Or.inl rfl⟩⟩
theorem gJ10_9_12 {Y : MY} (hc : (yN Y).cls = RJ10) : FW Y 9 12 1 := ⟨RJ10, TJ10, 3, rfl, by decide, Or.inl ⟨rfl, by rw [hc]; exact Or.inl ⟨_, q362, Or.inl rfl⟩⟩⟩
theorem fJ10_48_12 : FL RJ10 48 12 2 := ⟨RJ10, TJ10, 3, rfl, by decide, Or.inl ⟨_, q365, Or.inl rfl⟩⟩
theorem gJ10_48_12 {Y : MY} (hc : (yN Y).cls = RJ10) : FW Y 48 12 2 := ⟨RJ10, TJ10, 3, rfl, by decide, Or.inl ⟨rfl, by rw [hc]; exact Or.inl ⟨_, q365, Or.inl rfl⟩⟩⟩
theorem fJ10_63_12 : FL RJ10 63 12 0 := ⟨RJ10, TJ10, 3, rfl, by decide, Or.inl ⟨_, q369, Or.inr q368⟩⟩
theorem gJ10_63_12 {Y : MY} (hc : (yN Y).cls = RJ10) : FW Y 63 12 0 := ⟨RJ10, TJ10, 3, rfl, by decide, Or.inl ⟨rfl, by rw [hc]; exact Or.inl ⟨_, q369, Or.inr q368⟩⟩⟩
theorem fJ11_15_13 : FL RJ11 15 13 0 := ⟨RJ12, TJ12, 4, rfl, by decide, Or.inl ⟨_, q395, Or.inl rfl⟩⟩
theorem gJ11_15_13 {Y : MY} (hc : (yN Y).cls = RJ11) : FW Y 15 13 0 := ⟨RJ12, TJ12, 4, rfl, by decide, Or.inl ⟨rfl, by rw [hc]; exact Or.inl ⟨_, q395, Or.inl rfl⟩⟩⟩
theorem fJ11_22_13 : FL RJ11 22 13 1 := ⟨RJ12, TJ12, 4, rfl, by decide, Or.inl ⟨_, q396, Or.inl rfl⟩⟩
theorem gJ11_22_13 {Y : MY} (hc : (yN Y).cls = RJ11) : FW Y 22 13 1 := ⟨RJ12, TJ12, 4, rfl, by decide, Or.inl ⟨rfl, by rw [hc]; exact Or.inl ⟨_, q396, Or.inl rfl⟩⟩⟩
theorem fJ11_73_13 : FL RJ11 73 13 2 := ⟨RJ12, TJ12, 4, rfl, by decide, Or.inl ⟨_, q397, Or.inl rfl⟩⟩
theorem gJ11_73_13 {Y : MY} (hc : (yN Y).cls = RJ11) : FW Y 73 13 2 := ⟨RJ12, TJ12, 4, rfl, by decide, Or.inl ⟨rfl, by rw [hc]; exact Or.inl ⟨_, q397, Or.inl rfl⟩⟩⟩
theorem fJ11_79_13 : FL RJ11 79 13 3 := ⟨RJ12, TJ12, 4, rfl, by decide, Or.inl ⟨_, q399, Or.inl rfl⟩⟩
theorem gJ11_79_13 {Y : MY} (hc : (yN Y).cls = RJ11) : FW Y 79 13 3 := ⟨RJ12, TJ12, 4, rfl, by decide, Or.inl ⟨rfl, by rw [hc]; exact Or.inl ⟨_, q399, Or.inl rfl⟩⟩⟩
theorem fJ21_1_14 : FL RJ21 1 14 0 := ⟨RJ21, TJ21, 1, rfl, by decide, Or.inl ⟨_, q1300, Or.inl rfl⟩⟩
theorem gJ21_1_14 {Y : MY} (hc : (yN Y).cls = RJ21) (hn : (yN Y).name = "<init>") : FW Y 1 14 0 := ⟨RJ21, TJ21, 1, rfl, by decide, Or.inr ⟨rfl, by rw [hc]; rfl, hn, by rw [hc]; exact q1300⟩⟩
theorem fJ22_1_15 : FL RJ22 1 15 3 := ⟨RJ23, TJ23, 4, rfl, by decide, Or.inl ⟨_, q1330, Or.inl rfl⟩⟩
theorem gJ22_1_15 {Y : MY} (hc : (yN Y).cls = RJ22) (hn : (yN Y).name = "<init>") : FW Y 1 15 3 := ⟨RJ23, TJ23, 4, rfl, by decide, Or.inr ⟨rfl, by rw [hc]; rfl, hn, by rw [hc]; exact q1330⟩⟩
theorem fJ22_1_16 : FL RJ22 1 16 3 := ⟨RJ24, TJ24, 4, rfl, by decide, Or.inl ⟨_, q1330, Or.inl rfl⟩⟩
theorem gJ22_1_16 {Y : MY} (hc : (yN Y).cls = RJ22) (hn : (yN Y).name = "<init>") : FW Y 1 16 3 := ⟨RJ24, TJ24, 4, rfl, by decide, Or.inr ⟨rfl, by rw [hc]; rfl, hn, by rw [hc]; exact q1330⟩⟩
theorem fJ22_13_10 : FL RJ22 13 10 5 := ⟨RJ1, TJ1, 9, rfl, by decide, Or.inr ⟨_, q177⟩⟩
theorem gJ22_13_10 {Y : MY} (hc : (yN Y).cls = RJ22) : FW Y 13 10 5 := ⟨RJ1, TJ1, 9, rfl, by decide, Or.inl ⟨rfl, by rw [hc]; exact Or.inr ⟨_, q177⟩⟩⟩
theorem fJ22_19_15 : FL RJ22 19 15 2 := ⟨RJ23, TJ23, 4, rfl, by decide, Or.inl ⟨_, q1329, Or.inl rfl⟩⟩
theorem gJ22_19_15 {Y : MY} (hc : (yN Y).cls = RJ22) : FW Y 19 15 2 := ⟨RJ23, TJ23, 4, rfl, by decide, Or.inl ⟨rfl, by rw [hc]; exact Or.inl ⟨_, q1329, Or.inl rfl⟩⟩⟩
theorem fJ22_19_16 : FL RJ22 19 16 2 := ⟨RJ24, TJ24, 4, rfl, by decide, Or.inl ⟨_, q1329, Or.inl rfl⟩⟩
theorem gJ22_19_16 {Y : MY} (hc : (yN Y).cls = RJ22) : FW Y 19 16 2 := ⟨RJ24, TJ24, 4, rfl, by decide, Or.inl ⟨rfl, by rw [hc]; exact Or.inl ⟨_, q1329, Or.inl rfl⟩⟩⟩
theorem fJ22_22_15 : FL RJ22 22 15 1 := ⟨RJ23, TJ23, 4, rfl, by decide, Or.inl ⟨_, q1328, Or.inl rfl⟩⟩
theorem gJ22_22_15 {Y : MY} (hc : (yN Y).cls = RJ22) : FW Y 22 15 1 := ⟨RJ23, TJ23, 4, rfl, by decide, Or.inl ⟨rfl, by rw [hc]; exact Or.inl ⟨_, q1328, Or.inl rfl⟩⟩⟩
theorem fJ22_22_16 : FL RJ22 22 16 1 := ⟨RJ24, TJ24, 4, rfl, by decide, Or.inl ⟨_, q1328, Or.inl rfl⟩⟩
theorem gJ22_22_16 {Y : MY} (hc : (yN Y).cls = RJ22) : FW Y 22 16 1 := ⟨RJ24, TJ24, 4, rfl, by decide, Or.inl ⟨rfl, by rw [hc]; exact Or.inl ⟨_, q1328, Or.inl rfl⟩⟩⟩
theorem fJ22_26_15 : FL RJ22 26 15 0 := ⟨RJ23, TJ23, 4, rfl, by decide, Or.inl ⟨_, q1327, Or.inl rfl⟩⟩
theorem gJ22_26_15 {Y : MY} (hc : (yN Y).cls = RJ22) : FW Y 26 15 0 := ⟨RJ23, TJ23, 4, rfl, by decide, Or.inl ⟨rfl, by rw [hc]; exact Or.inl ⟨_, q1327, Or.inl rfl⟩⟩⟩
theorem fJ22_26_16 : FL RJ22 26 16 0 := ⟨RJ24, TJ24, 4, rfl, by decide, Or.inl ⟨_, q1327, Or.inl rfl⟩⟩
theorem gJ22_26_16 {Y : MY} (hc : (yN Y).cls = RJ22) : FW Y 26 16 0 := ⟨RJ24, TJ24, 4, rfl, by decide, Or.inl ⟨rfl, by rw [hc]; exact Or.inl ⟨_, q1327, Or.inl rfl⟩⟩⟩
theorem fJ24_13_18 : FL RJ24 13 18 0 := ⟨RJ29, TJ29, 6, rfl, by decide, Or.inl ⟨_, q1502, Or.inl rfl⟩⟩
theorem gJ24_13_18 {Y : MY} (hc : (yN Y).cls = RJ24) : FW Y 13 18 0 := ⟨RJ29, TJ29, 6, rfl, by decide, Or.inl ⟨rfl, by rw [hc]; exact Or.inl ⟨_, q1502, Or.inl rfl⟩⟩⟩
theorem fJ25_7_17 : FL RJ25 7 17 0 := ⟨RJ25, TJ25, 1, rfl, by decide, Or.inl ⟨_, q1389, Or.inl rfl⟩⟩
theorem gJ25_7_17 {Y : MY} (hc : (yN Y).cls = RJ25) (hn : (yN Y).name = "<init>") : FW Y 7 17 0 := ⟨RJ25, TJ25, 1, rfl, by decide, Or.inr ⟨rfl, by rw [hc]; rfl, hn, by rw [hc]; exact q1389⟩⟩
theorem fJ27_205_22 : FL RJ27 205 22 0 := ⟨RJ27, TJ27, 1, rfl, by decide, Or.inl ⟨_, q1772, Or.inl rfl⟩⟩
theorem gJ27_205_22 {Y : MY} (hc : (yN Y).cls = RJ27) (hn : (yN Y).name = "<init>") : FW Y 205 22 0 := ⟨RJ27, TJ27, 1, rfl, by decide, Or.inr ⟨rfl, by rw [hc]; rfl, hn, by rw [hc]; exact q1772⟩⟩
theorem fJ29_9_18 : FL RJ29 9 18 5 := ⟨RJ29, TJ29, 6, rfl, by decide, Or.inl ⟨_, q1510, Or.inl rfl⟩⟩
theorem gJ29_9_18 {Y : MY} (hc : (yN Y).cls = RJ29) : FW Y 9 18 5 := ⟨RJ29, TJ29, 6, rfl, by decide, Or.inl ⟨rfl, by rw [hc]; exact Or.inl ⟨_, q1510, Or.inl rfl⟩⟩⟩
theorem fJ29_15_18 : FL RJ29 15 18 0 := ⟨RJ29, TJ29, 6, rfl, by decide, Or.inl ⟨_, q1501, Or.inl rfl⟩⟩
theorem gJ29_15_18 {Y : MY} (hc : (yN Y).cls = RJ29) : FW Y 15 18 0 := ⟨RJ29, TJ29, 6, rfl, by decide, Or.inl ⟨rfl, by rw [hc]; exact Or.inl ⟨_, q1501, Or.inl rfl⟩⟩⟩
theorem fJ29_19_18 : FL RJ29 19 18 1 := ⟨RJ29, TJ29, 6, rfl, by decide, Or.inl ⟨_, q1504, Or.inl rfl⟩⟩
theorem gJ29_19_18 {Y : MY} (hc : (yN Y).cls = RJ29) : FW Y 19 18 1 := ⟨RJ29, TJ29, 6, rfl, by decide, Or.inl ⟨rfl, by rw [hc]; exact Or.inl ⟨_, q1504, Or.inl rfl⟩⟩⟩
theorem fJ29_22_18 : FL RJ29 22 18 4 := ⟨RJ29, TJ29, 6, rfl, by decide, Or.inl ⟨_, q1508, Or.inl rfl⟩⟩
theorem gJ29_22_18 {Y : MY} (hc : (yN Y).cls = RJ29) : FW Y 22 18 4 := ⟨RJ29, TJ29, 6, rfl, by decide, Or.inl ⟨rfl, by rw [hc]; exact Or.inl ⟨_, q1508, Or.inl rfl⟩⟩⟩
theorem fJ34_1_19 : FL RJ34 1 19 3 := ⟨RJ34, TJ34, 4, rfl, by decide, Or.inl ⟨_, q1641, Or.inl rfl⟩⟩
theorem gJ34_1_19 {Y : MY} (hc : (yN Y).cls = RJ34) (hn : (yN Y).name = "<init>") : FW Y 1 19 3 := ⟨RJ34, TJ34, 4, rfl, by decide, Or.inr ⟨rfl, by rw [hc]; rfl, hn, by rw [hc]; exact q1641⟩⟩
theorem fJ34_13_19 : FL RJ34 13 19 1 := ⟨RJ34, TJ34, 4, rfl, by decide, Or.inl ⟨_, q1639, Or.inl rfl⟩⟩
theorem gJ34_13_19 {Y : MY} (hc : (yN Y).cls = RJ34) : FW Y 13 19 1 := ⟨RJ34, TJ34, 4, rfl, by decide, Or.inl ⟨rfl, by rw [hc]; exact Or.inl ⟨_, q1639, Or.inl rfl⟩⟩⟩
theorem fJ34_17_12 : FL RJ34 17 12 0 := ⟨RJ10, TJ10, 3, rfl, by decide, Or.inl ⟨_, q367, Or.inr q368⟩⟩
theorem gJ34_17_12 {Y : MY} (hc : (yN Y).cls = RJ34) : FW Y 17 12 0 := ⟨RJ10, TJ10, 3, rfl, by decide, Or.inl ⟨rfl, by rw [hc]; exact Or.inl ⟨_, q367, Or.inr q368⟩⟩⟩
theorem fJ34_22_19 : FL RJ34 22 19 2 := ⟨RJ34, TJ34, 4, rfl, by decide, Or.inl ⟨_, q1640, Or.inl rfl⟩⟩
theorem gJ34_22_19 {Y : MY} (hc : (yN Y).cls = RJ34) : FW Y 22 19 2 := ⟨RJ34, TJ34, 4, rfl, by decide, Or.inl ⟨rfl, by rw [hc]; exact Or.inl ⟨_, q1640, Or.inl rfl⟩⟩⟩
theorem fJ34_25_19 : FL RJ34 25 19 0 := ⟨RJ34, TJ34, 4, rfl, by decide, Or.inl ⟨_, q1638, Or.inl rfl⟩⟩
theorem gJ34_25_19 {Y : MY} (hc : (yN Y).cls = RJ34) : FW Y 25 19 0 := ⟨RJ34, TJ34, 4, rfl, by decide, Or.inl ⟨rfl, by rw [hc]; exact Or.inl ⟨_, q1638, Or.inl rfl⟩⟩⟩
theorem fJ34_28_12 : FL RJ34 28 12 2 := ⟨RJ10, TJ10, 3, rfl, by decide, Or.inr ⟨_, q364⟩⟩
theorem gJ34_28_12 {Y : MY} (hc : (yN Y).cls = RJ34) : FW Y 28 12 2 := ⟨RJ10, TJ10, 3, rfl, by decide, Or.inl ⟨rfl, by rw [hc]; exact Or.inr ⟨_, q364⟩⟩⟩
theorem fJ34_37_12 : FL RJ34 37 12 1 := ⟨RJ10, TJ10, 3, rfl, by decide, Or.inl ⟨_, q363, Or.inl rfl⟩⟩
theorem gJ34_37_12 {Y : MY} (hc : (yN Y).cls = RJ34) : FW Y 37 12 1 := ⟨RJ10, TJ10, 3, rfl, by decide, Or.inl ⟨rfl, by rw [hc]; exact Or.inl ⟨_, q363, Or.inl rfl⟩⟩⟩
theorem fJ35_1_20 : FL RJ35 1 20 5 := ⟨RJ35, TJ35, 6, rfl, by decide, Or.inl ⟨_, q1668, Or.inl rfl⟩⟩
theorem gJ35_1_20 {Y : MY} (hc : (yN Y).cls = RJ35) (hn : (yN Y).name = "<init>") : FW Y 1 20 5 := ⟨RJ35, TJ35, 6, rfl, by decide, Or.inr ⟨rfl, by rw [hc]; rfl, hn, by rw [hc]; exact q1668⟩⟩
theorem fJ35_13_20 : FL RJ35 13 20 1 := ⟨RJ35, TJ35, 6, rfl, by decide, Or.inl ⟨_, q1664, Or.inl rfl⟩⟩
theorem gJ35_13_20 {Y : MY} (hc : (yN Y).cls = RJ35) : FW Y 13 20 1 := ⟨RJ35, TJ35, 6, rfl, by decide, Or.inl ⟨rfl, by rw [hc]; exact Or.inl ⟨_, q1664, Or.inl rfl⟩⟩⟩
theorem fJ35_17_11 : FL RJ35 17 11 3 := ⟨RJ4, TJ4, 4, rfl, by decide, Or.inl ⟨_, q294, Or.inl rfl⟩⟩
theorem gJ35_17_11 {Y : MY} (hc : (yN Y).cls = RJ35) : FW Y 17 11 3 := ⟨RJ4, TJ4, 4, rfl, by decide, Or.inl ⟨rfl, by rw [hc]; exact Or.inl ⟨_, q294, Or.inl rfl⟩⟩⟩
theorem fJ35_22_20 : FL RJ35 22 20 4 := ⟨RJ35, TJ35, 6, rfl, by decide, Or.inl ⟨_, q1667, Or.inl rfl⟩⟩
theorem gJ35_22_20 {Y : MY} (hc : (yN Y).cls = RJ35) : FW Y 22 20 4 := ⟨RJ35, TJ35, 6, rfl, by decide, Or.inl ⟨rfl, by rw [hc]; exact Or.inl ⟨_, q1667, Or.inl rfl⟩⟩⟩
theorem fJ35_25_20 : FL RJ35 25 20 0 := ⟨RJ35, TJ35, 6, rfl, by decide, Or.inl ⟨_, q1663, Or.inl rfl⟩⟩
theorem gJ35_25_20 {Y : MY} (hc : (yN Y).cls = RJ35) : FW Y 25 20 0 := ⟨RJ35, TJ35, 6, rfl, by decide, Or.inl ⟨rfl, by rw [hc]; exact Or.inl ⟨_, q1663, Or.inl rfl⟩⟩⟩
theorem fJ35_28_11 : FL RJ35 28 11 1 := ⟨RJ4, TJ4, 4, rfl, by decide, Or.inl ⟨_, q291, Or.inl rfl⟩⟩
theorem gJ35_28_11 {Y : MY} (hc : (yN Y).cls = RJ35) : FW Y 28 11 1 := ⟨RJ4, TJ4, 4, rfl, by decide, Or.inl ⟨rfl, by rw [hc]; exact Or.inl ⟨_, q291, Or.inl rfl⟩⟩⟩
theorem fJ35_31_20 : FL RJ35 31 20 2 := ⟨RJ35, TJ35, 6, rfl, by decide, Or.inl ⟨_, q1665, Or.inl rfl⟩⟩
theorem gJ35_31_20 {Y : MY} (hc : (yN Y).cls = RJ35) : FW Y 31 20 2 := ⟨RJ35, TJ35, 6, rfl, by decide, Or.inl ⟨rfl, by rw [hc]; exact Or.inl ⟨_, q1665, Or.inl rfl⟩⟩⟩
theorem fJ35_44_11 : FL RJ35 44 11 0 := ⟨RJ4, TJ4, 4, rfl, by decide, Or.inl ⟨_, q289, Or.inl rfl⟩⟩
theorem gJ35_44_11 {Y : MY} (hc : (yN Y).cls = RJ35) : FW Y 44 11 0 := ⟨RJ4, TJ4, 4, rfl, by decide, Or.inl ⟨rfl, by rw [hc]; exact Or.inl ⟨_, q289, Or.inl rfl⟩⟩⟩
theorem fJ35_52_20 : FL RJ35 52 20 3 := ⟨RJ35, TJ35, 6, rfl, by decide, Or.inl ⟨_, q1666, Or.inl rfl⟩⟩
theorem gJ35_52_20 {Y : MY} (hc : (yN Y).cls = RJ35) : FW Y 52 20 3 := ⟨RJ35, TJ35, 6, rfl, by decide, Or.inl ⟨rfl, by rw [hc]; exact Or.inl ⟨_, q1666, Or.inl rfl⟩⟩⟩
theorem fJ38_7_21 : FL RJ38 7 21 0 := ⟨RJ38, TJ38, 1, rfl, by decide, Or.inl ⟨_, q1753, Or.inl rfl⟩⟩
theorem gJ38_7_21 {Y : MY} (hc : (yN Y).cls = RJ38) : FW Y 7 21 0 := ⟨RJ38, TJ38, 1, rfl, by decide, Or.inl ⟨rfl, by rw [hc]; exact Or.inl ⟨_, q1753, Or.inl rfl⟩⟩⟩
theorem fJ4_17_11 : FL RJ4 17 11 0 := ⟨RJ4, TJ4, 4, rfl, by decide, Or.inl ⟨_, q290, Or.inl rfl⟩⟩
theorem gJ4_17_11 {Y : MY} (hc : (yN Y).cls = RJ4) : FW Y 17 11 0 := ⟨RJ4, TJ4, 4, rfl, by decide, Or.inl ⟨rfl, by rw [hc]; exact Or.inl ⟨_, q290, Or.inl rfl⟩⟩⟩
theorem fJ4_21_11 : FL RJ4 21 11 2 := ⟨RJ4, TJ4, 4, rfl, by decide, Or.inl ⟨_, q293, Or.inl rfl⟩⟩
theorem gJ4_21_11 {Y : MY} (hc : (yN Y).cls = RJ4) (hn : (yN Y).name = "<init>") : FW Y 21 11 2 := ⟨RJ4, TJ4, 4, rfl, by decide, Or.inr ⟨rfl, by rw [hc]; rfl, hn, by rw [hc]; exact q293⟩⟩
theorem fJ4_58_11 : FL RJ4 58 11 1 := ⟨RJ4, TJ4, 4, rfl, by decide, Or.inl ⟨_, q292, Or.inl rfl⟩⟩
theorem gJ4_58_11 {Y : MY} (hc : (yN Y).cls = RJ4) : FW Y 58 11 1 := ⟨RJ4, TJ4, 4, rfl, by decide, Or.inl ⟨rfl, by rw [hc]; exact Or.inl ⟨_, q292, Or.inl rfl⟩⟩⟩
theorem fJ4_93_11 : FL RJ4 93 11 3 := ⟨RJ4, TJ4, 4, rfl, by decide, Or.inl ⟨_, q295, Or.inl rfl⟩⟩
theorem gJ4_93_11 {Y : MY} (hc : (yN Y).cls = RJ4) : FW Y 93 11 3 := ⟨RJ4, TJ4, 4, rfl, by decide, Or.inl ⟨rfl, by rw [hc]; exact Or.inl ⟨_, q295, Or.inl rfl⟩⟩⟩
theorem fJ9_7_12 : FL RJ9 7 12 0 := ⟨RJ10, TJ10, 3, rfl, by decide, Or.inl ⟨_, q366, Or.inl rfl⟩⟩
theorem gJ9_7_12 {Y : MY} (hc : (yN Y).cls = RJ9) : FW Y 7 12 0 := ⟨RJ10, TJ10, 3, rfl, by decide, Or.inl ⟨rfl, by rw [hc]; exact Or.inl ⟨_, q366, Or.inl rfl⟩⟩⟩
theorem fX1_36_0 : FL RX1 36 0 0 := ⟨RX1, TX1, 3, rfl, by decide, Or.inl ⟨_, q410, Or.inl rfl⟩⟩
theorem gX1_36_0 {Y : MY} (hc : (yN Y).cls = RX1) : FW Y 36 0 0 := ⟨RX1, TX1, 3, rfl, by decide, Or.inl ⟨rfl, by rw [hc]; exact Or.inl ⟨_, q410, Or.inl rfl⟩⟩⟩
theorem fX1_43_0 : FL RX1 43 0 1 := ⟨RX1, TX1, 3, rfl, by decide, Or.inl ⟨_, q411, Or.inl rfl⟩⟩
theorem gX1_43_0 {Y : MY} (hc : (yN Y).cls = RX1) (hn : (yN Y).name = "<init>") : FW Y 43 0 1 := ⟨RX1, TX1, 3, rfl, by decide, Or.inr ⟨rfl, by rw [hc]; rfl, hn, by rw [hc]; exact q411⟩⟩
theorem fX1_52_0 : FL RX1 52 0 2 := ⟨RX1, TX1, 3, rfl, by decide, Or.inl ⟨_, q412, Or.inl rfl⟩⟩
theorem gX1_52_0 {Y : MY} (hc : (yN Y).cls = RX1) (hn : (yN Y).name = "<init>") : FW Y 52 0 2 := ⟨RX1, TX1, 3, rfl, by decide, Or.inr ⟨rfl, by rw [hc]; rfl, hn, by rw [hc]; exact q412⟩⟩
theorem fX1_91_1 : FL RX1 91 1 0 := ⟨RX2, TX2, 6, rfl, by decide, Or.inr ⟨_, q327⟩⟩
theorem fX1_95_2 : FL RX1 95 2 0 := ⟨RX3, TX3, 6, rfl, by decide, Or.inr ⟨_, q133⟩⟩
theorem fX1_102_2 : FL RX1 102 2 1 := ⟨RX3, TX3, 6, rfl, by decide, Or.inr ⟨_, q136⟩⟩
theorem fX1_105_2 : FL RX1 105 2 2 := ⟨RX3, TX3, 6, rfl, by decide, Or.inr ⟨_, q138⟩⟩
theorem fX1_115_2 : FL RX1 115 2 3 := ⟨RX3, TX3, 6, rfl, by decide, Or.inr ⟨_, q140⟩⟩
theorem fX1_122_1 : FL RX1 122 1 1 := ⟨RX2, TX2, 6, rfl, by decide, Or.inr ⟨_, q329⟩⟩
theorem fX1_134_7 : FL RX1 134 7 1 := ⟨RX8, TX8, 4, rfl, by decide, Or.inr ⟨_, q1808⟩⟩
theorem fX1_140_1 : FL RX1 140 1 3 := ⟨RX2, TX2, 6, rfl, by decide, Or.inr ⟨_, q333⟩⟩
theorem gX1_140_1 {Y : MY} (hc : (yN Y).cls = RX1) : FW Y 140 1 3 := ⟨RX2, TX2, 6, rfl, by decide, Or.inl ⟨rfl, by rw [hc]; exact Or.inr ⟨_, q333⟩⟩⟩
theorem fX1_149_2 : FL RX1 149 2 4 := ⟨RX3, TX3, 6, rfl, by decide, Or.inr ⟨_, q142⟩⟩
theorem fX1_155_7 : FL RX1 155 7 3 := ⟨RX8, TX8, 4, rfl, by decide, Or.inr ⟨_, q1815⟩⟩
theorem fX1_162_3 : FL RX1 162 3 0 := ⟨RX4, TX4, 4, rfl, by decide, Or.inr ⟨_, q306⟩⟩
theorem fX1_169_3 : FL RX1 169 3 2 := ⟨RX4, TX4, 4, rfl, by decide, Or.inr ⟨_, q310⟩⟩
theorem gX1_169_3 {Y : MY} (hc : (yN Y).cls = RX1) : FW Y 169 3 2 := ⟨RX4, TX4, 4, rfl, by decide, Or.inl ⟨rfl, by rw [hc]; exact Or.inr ⟨_, q310⟩⟩⟩
theorem fX1_172_3 : FL RX1 172 3 3 := ⟨RX4, TX4, 4, rfl, by decide, Or.inr ⟨_, q312⟩⟩
theorem gX1_172_3 {Y : MY} (hc : (yN Y).cls = RX1) : FW Y 172 3 3 := ⟨RX4, TX4, 4, rfl, by decide, Or.inl ⟨rfl, by rw [hc]; exact Or.inr ⟨_, q312⟩⟩⟩
theorem fX1_175_3 : FL RX1 175 3 1 := ⟨RX4, TX4, 4, rfl, by decide, Or.inr ⟨_, q308⟩⟩
theorem fX1_189_7 : FL RX1 189 7 2 := ⟨RX8, TX8, 4, rfl, by decide, Or.inr ⟨_, q1811⟩⟩
theorem fX1_192_1 : FL RX1 192 1 4 := ⟨RX2, TX2, 6, rfl, by decide, Or.inr ⟨_, q335⟩⟩
theorem gX1_192_1 {Y : MY} (hc : (yN Y).cls = RX1) : FW Y 192 1 4 := ⟨RX2, TX2, 6, rfl, by decide, Or.inl ⟨rfl, by rw [hc]; exact Or.inr ⟨_, q335⟩⟩⟩
theorem fX1_198_1 : FL RX1 198 1 5 := ⟨RX2, TX2, 6, rfl, by decide, Or.inr ⟨_, q337⟩⟩
theorem gX1_198_1 {Y : MY} (hc : (yN Y).cls = RX1) : FW Y 198 1 5 := ⟨RX2, TX2, 6, rfl, by decide, Or.inl ⟨rfl, by rw [hc]; exact Or.inr ⟨_, q337⟩⟩⟩
theorem fX1_201_1 : FL RX1 201 1 2 := ⟨RX2, TX2, 6, rfl, by decide, Or.inr ⟨_, q331⟩⟩
theorem fX1_234_8 : FL RX1 234 8 1 := ⟨RX9, TX9, 4, rfl, by decide, Or.inr ⟨_, q778⟩⟩
theorem fX1_251_9 : FL RX1 251 9 0 := ⟨RX10, TX10, 2, rfl, by decide, Or.inr ⟨_, q836⟩⟩
theorem fX1_255_9 : FL RX1 255 9 1 := ⟨RX10, TX10, 2, rfl, by decide, Or.inr ⟨_, q838⟩⟩
theorem fX10_7_9 : FL RX10 7 9 0 := ⟨RX10, TX10, 2, rfl, by decide, Or.inl ⟨_, q835, Or.inl rfl⟩⟩
theorem gX10_7_9 {Y : MY} (hc : (yN Y).cls = RX10) (hn : (yN Y).name = "<init>") : FW Y 7 9 0 := ⟨RX10, TX10, 2, rfl, by decide, Or.inr ⟨rfl, by rw [hc]; rfl, hn, by rw [hc]; exact q835⟩⟩
theorem fX10_13_9 : FL RX10 13 9 1 := ⟨RX10, TX10, 2, rfl, by decide, Or.inl ⟨_, q837, Or.inl rfl⟩⟩
theorem gX10_13_9 {Y : MY} (hc : (yN Y).cls = RX10) (hn : (yN Y).name = "<init>") : FW Y 13 9 1 := ⟨RX10, TX10, 2, rfl, by decide, Or.inr ⟨rfl, by rw [hc]; rfl, hn, by rw [hc]; exact q837⟩⟩
theorem fX2_9_1 : FL RX2 9 1 2 := ⟨RX2, TX2, 6, rfl, by decide, Or.inl ⟨_, q330, Or.inl rfl⟩⟩
theorem gX2_9_1 {Y : MY} (hc : (yN Y).cls = RX2) (hn : (yN Y).name = "<init>") : FW Y 9 1 2 := ⟨RX2, TX2, 6, rfl, by decide, Or.inr ⟨rfl, by rw [hc]; rfl, hn, by rw [hc]; exact q330⟩⟩
theorem fX2_15_1 : FL RX2 15 1 0 := ⟨RX2, TX2, 6, rfl, by decide, Or.inl ⟨_, q326, Or.inl rfl⟩⟩
theorem gX2_15_1 {Y : MY} (hc : (yN Y).cls = RX2) (hn : (yN Y).name = "<init>") : FW Y 15 1 0 := ⟨RX2, TX2, 6, rfl, by decide, Or.inr ⟨rfl, by rw [hc]; rfl, hn, by rw [hc]; exact q326⟩⟩
theorem fX2_19_1 : FL RX2 19 1 1 := ⟨RX2, TX2, 6, rfl, by decide, Or.inl ⟨_, q328, Or.inl rfl⟩⟩
theorem gX2_19_1 {Y : MY} (hc : (yN Y).cls = RX2) (hn : (yN Y).name = "<init>") : FW Y 19 1 1 := ⟨RX2, TX2, 6, rfl, by decide, Or.inr ⟨rfl, by rw [hc]; rfl, hn, by rw [hc]; exact q328⟩⟩
theorem fX2_40_1 : FL RX2 40 1 3 := ⟨RX2, TX2, 6, rfl, by decide, Or.inl ⟨_, q332, Or.inl rfl⟩⟩
theorem gX2_40_1 {Y : MY} (hc : (yN Y).cls = RX2) : FW Y 40 1 3 := ⟨RX2, TX2, 6, rfl, by decide, Or.inl ⟨rfl, by rw [hc]; exact Or.inl ⟨_, q332, Or.inl rfl⟩⟩⟩
theorem fX2_44_1 : FL RX2 44 1 4 := ⟨RX2, TX2, 6, rfl, by decide, Or.inl ⟨_, q334, Or.inl rfl⟩⟩
theorem gX2_44_1 {Y : MY} (hc : (yN Y).cls = RX2) : FW Y 44 1 4 := ⟨RX2, TX2, 6, rfl, by decide, Or.inl ⟨rfl, by rw [hc]; exact Or.inl ⟨_, q334, Or.inl rfl⟩⟩⟩
theorem fX2_47_1 : FL RX2 47 1 5 := ⟨RX2, TX2, 6, rfl, by decide, Or.inl ⟨_, q336, Or.inl rfl⟩⟩
theorem gX2_47_1 {Y : MY} (hc : (yN Y).cls = RX2) : FW Y 47 1 5 := ⟨RX2, TX2, 6, rfl, by decide, Or.inl ⟨rfl, by rw [hc]; exact Or.inl ⟨_, q336, Or.inl rfl⟩⟩⟩
theorem fX2_58_2 : FL RX2 58 2 0 := ⟨RX3, TX3, 6, rfl, by decide, Or.inr ⟨_, q132⟩⟩
theorem fX2_90_2 : FL RX2 90 2 1 := ⟨RX3, TX3, 6, rfl, by decide, Or.inr ⟨_, q135⟩⟩
theorem fX2_110_7 : FL RX2 110 7 1 := ⟨RX8, TX8, 4, rfl, by decide, Or.inr ⟨_, q1807⟩⟩
theorem fX2_113_7 : FL RX2 113 7 2 := ⟨RX8, TX8, 4, rfl, by decide, Or.inr ⟨_, q1810⟩⟩
theorem fX3_9_2 : FL RX3 9 2 0 := ⟨RX3, TX3, 6, rfl, by decide, Or.inl ⟨_, q131, Or.inl rfl⟩⟩
theorem gX3_9_2 {Y : MY} (hc : (yN Y).cls = RX3) (hn : (yN Y).name = "<init>") : FW Y 9 2 0 := ⟨RX3, TX3, 6, rfl, by decide, Or.inr ⟨rfl, by rw [hc]; rfl, hn, by rw [hc]; exact q131⟩⟩
theorem fX3_15_2 : FL RX3 15 2 1 := ⟨RX3, TX3, 6, rfl, by decide, Or.inl ⟨_, q134, Or.inl rfl⟩⟩
theorem gX3_15_2 {Y : MY} (hc : (yN Y).cls = RX3) (hn : (yN Y).name = "<init>") : FW Y 15 2 1 := ⟨RX3, TX3, 6, rfl, by decide, Or.inr ⟨rfl, by rw [hc]; rfl, hn, by rw [hc]; exact q134⟩⟩
theorem fX3_18_2 : FL RX3 18 2 2 := ⟨RX3, TX3, 6, rfl, by decide, Or.inl ⟨_, q137, Or.inl rfl⟩⟩
theorem gX3_18_2 {Y : MY} (hc : (yN Y).cls = RX3) (hn : (yN Y).name = "<init>") : FW Y 18 2 2 := ⟨RX3, TX3, 6, rfl, by decide, Or.inr ⟨rfl, by rw [hc]; rfl, hn, by rw [hc]; exact q137⟩⟩
theorem fX3_21_2 : FL RX3 21 2 3 := ⟨RX3, TX3, 6, rfl, by decide, Or.inl ⟨_, q139, Or.inl rfl⟩⟩
theorem gX3_21_2 {Y : MY} (hc : (yN Y).cls = RX3) (hn : (yN Y).name = "<init>") : FW Y 21 2 3 := ⟨RX3, TX3, 6, rfl, by decide, Or.inr ⟨rfl, by rw [hc]; rfl, hn, by rw [hc]; exact q139⟩⟩
theorem fX3_24_2 : FL RX3 24 2 4 := ⟨RX3, TX3, 6, rfl, by decide, Or.inl ⟨_, q141, Or.inl rfl⟩⟩
theorem gX3_24_2 {Y : MY} (hc : (yN Y).cls = RX3) (hn : (yN Y).name = "<init>") : FW Y 24 2 4 := ⟨RX3, TX3, 6, rfl, by decide, Or.inr ⟨rfl, by rw [hc]; rfl, hn, by rw [hc]; exact q141⟩⟩
theorem fX3_27_2 : FL RX3 27 2 5 := ⟨RX3, TX3, 6, rfl, by decide, Or.inl ⟨_, q143, Or.inl rfl⟩⟩
theorem gX3_27_2 {Y : MY} (hc : (yN Y).cls = RX3) (hn : (yN Y).name = "<init>") : FW Y 27 2 5 := ⟨RX3, TX3, 6, rfl, by decide, Or.inr ⟨rfl, by rw [hc]; rfl, hn, by rw [hc]; exact q143⟩⟩
theorem fX4_10_3 : FL RX4 10 3 0 := ⟨RX4, TX4, 4, rfl, by decide, Or.inl ⟨_, q305, Or.inl rfl⟩⟩
theorem gX4_10_3 {Y : MY} (hc : (yN Y).cls = RX4) (hn : (yN Y).name = "<init>") : FW Y 10 3 0 := ⟨RX4, TX4, 4, rfl, by decide, Or.inr ⟨rfl, by rw [hc]; rfl, hn, by rw [hc]; exact q305⟩⟩
theorem fX4_24_3 : FL RX4 24 3 1 := ⟨RX4, TX4, 4, rfl, by decide, Or.inl ⟨_, q307, Or.inl rfl⟩⟩
theorem gX4_24_3 {Y : MY} (hc : (yN Y).cls = RX4) (hn : (yN Y).name = "<init>") : FW Y 24 3 1 := ⟨RX4, TX4, 4, rfl, by decide, Or.inr ⟨rfl, by rw [hc]; rfl, hn, by rw [hc]; exact q307⟩⟩
theorem fX4_37_3 : FL RX4 37 3 2 := ⟨RX4, TX4, 4, rfl, by decide, Or.inl ⟨_, q309, Or.inl rfl⟩⟩
theorem gX4_37_3 {Y : MY} (hc : (yN Y).cls = RX4) : FW Y 37 3 2 := ⟨RX4, TX4, 4, rfl, by decide, Or.inl ⟨rfl, by rw [hc]; exact Or.inl ⟨_, q309, Or.inl rfl⟩⟩⟩
theorem fX4_41_3 : FL RX4 41 3 3 := ⟨RX4, TX4, 4, rfl, by decide, Or.inl ⟨_, q311, Or.inl rfl⟩⟩
theorem gX4_41_3 {Y : MY} (hc : (yN Y).cls = RX4) : FW Y 41 3 3 := ⟨RX4, TX4, 4, rfl, by decide, Or.inl ⟨rfl, by rw [hc]; exact Or.inl ⟨_, q311, Or.inl rfl⟩⟩⟩
theorem fX4_44_7 : FL RX4 44 7 0 := ⟨RX8, TX8, 4, rfl, by decide, Or.inr ⟨_, q1805⟩⟩
theorem fX4_80_7 : FL RX4 80 7 3 := ⟨RX8, TX8, 4, rfl, by decide, Or.inr ⟨_, q1814⟩⟩
theorem fX5_7_7 : FL RX5 7 7 3 := ⟨RX8, TX8, 4, rfl, by decide, Or.inr ⟨_, q1813⟩⟩
theorem fX5_19_7 : FL RX5 19 7 0 := ⟨RX8, TX8, 4, rfl, by decide, Or.inr ⟨_, q1804⟩⟩
theorem fX6_7_5 : FL RX6 7 5 1 := ⟨RX6, TX6, 11, rfl, by decide, Or.inl ⟨_, q2200, Or.inl rfl⟩⟩
theorem gX6_7_5 {Y : MY} (hc : (yN Y).cls = RX6) (hn : (yN Y).name = "<init>") : FW Y 7 5 1 := ⟨RX6, TX6, 11, rfl, by decide, Or.inr ⟨rfl, by rw [hc]; rfl, hn, by rw [hc]; exact q2200⟩⟩
theorem fX6_13_5 : FL RX6 13 5 2 := ⟨RX6, TX6, 11, rfl, by decide, Or.inl ⟨_, q2201, Or.inl rfl⟩⟩
theorem gX6_13_5 {Y : MY} (hc : (yN Y).cls = RX6) (hn : (yN Y).name = "<init>") : FW Y 13 5 2 := ⟨RX6, TX6, 11, rfl, by decide, Or.inr ⟨rfl, by rw [hc]; rfl, hn, by rw [hc]; exact q2201⟩⟩
theorem fX6_16_5 : FL RX6 16 5 4 := ⟨RX6, TX6, 11, rfl, by decide, Or.inl ⟨_, q2203, Or.inl rfl⟩⟩
theorem gX6_16_5 {Y : MY} (hc : (yN Y).cls = RX6) (hn : (yN Y).name = "<init>") : FW Y 16 5 4 := ⟨RX6, TX6, 11, rfl, by decide, Or.inr ⟨rfl, by rw [hc]; rfl, hn, by rw [hc]; exact q2203⟩⟩
theorem fX6_19_5 : FL RX6 19 5 5 := ⟨RX6, TX6, 11, rfl, by decide, Or.inl ⟨_, q2204, Or.inl rfl⟩⟩
theorem gX6_19_5 {Y : MY} (hc : (yN Y).cls = RX6) (hn : (yN Y).name = "<init>") : FW Y 19 5 5 := ⟨RX6, TX6, 11, rfl, by decide, Or.inr ⟨rfl, by rw [hc]; rfl, hn, by rw [hc]; exact q2204⟩⟩
theorem fX6_22_5 : FL RX6 22 5 7 := ⟨RX6, TX6, 11, rfl, by decide, Or.inl ⟨_, q2206, Or.inl rfl⟩⟩
theorem gX6_22_5 {Y : MY} (hc : (yN Y).cls = RX6) (hn : (yN Y).name = "<init>") : FW Y 22 5 7 := ⟨RX6, TX6, 11, rfl, by decide, Or.inr ⟨rfl, by rw [hc]; rfl, hn, by rw [hc]; exact q2206⟩⟩
theorem fX6_32_5 : FL RX6 32 5 0 := ⟨RX6, TX6, 11, rfl, by decide, Or.inl ⟨_, q2199, Or.inl rfl⟩⟩
theorem gX6_32_5 {Y : MY} (hc : (yN Y).cls = RX6) : FW Y 32 5 0 := ⟨RX6, TX6, 11, rfl, by decide, Or.inl ⟨rfl, by rw [hc]; exact Or.inl ⟨_, q2199, Or.inl rfl⟩⟩⟩
theorem fX6_36_5 : FL RX6 36 5 3 := ⟨RX6, TX6, 11, rfl, by decide, Or.inl ⟨_, q2202, Or.inl rfl⟩⟩
theorem gX6_36_5 {Y : MY} (hc : (yN Y).cls = RX6) : FW Y 36 5 3 := ⟨RX6, TX6, 11, rfl, by decide, Or.inl ⟨rfl, by rw [hc]; exact Or.inl ⟨_, q2202, Or.inl rfl⟩⟩⟩
theorem fX6_134_5 : FL RX6 134 5 6 := ⟨RX6, TX6, 11, rfl, by decide, Or.inl ⟨_, q2205, Or.inl rfl⟩⟩
theorem gX6_134_5 {Y : MY} (hc : (yN Y).cls = RX6) : FW Y 134 5 6 := ⟨RX6, TX6, 11, rfl, by decide, Or.inl ⟨rfl, by rw [hc]; exact Or.inl ⟨_, q2205, Or.inl rfl⟩⟩⟩
theorem fX6_137_5 : FL RX6 137 5 8 := ⟨RX6, TX6, 11, rfl, by decide, Or.inl ⟨_, q2207, Or.inl rfl⟩⟩
theorem gX6_137_5 {Y : MY} (hc : (yN Y).cls = RX6) : FW Y 137 5 8 := ⟨RX6, TX6, 11, rfl, by decide, Or.inl ⟨rfl, by rw [hc]; exact Or.inl ⟨_, q2207, Or.inl rfl⟩⟩⟩
theorem fX6_144_5 : FL RX6 144 5 10 := ⟨RX6, TX6, 11, rfl, by decide, Or.inl ⟨_, q2209, Or.inl rfl⟩⟩
theorem gX6_144_5 {Y : MY} (hc : (yN Y).cls = RX6) : FW Y 144 5 10 := ⟨RX6, TX6, 11, rfl, by decide, Or.inl ⟨rfl, by rw [hc]; exact Or.inl ⟨_, q2209, Or.inl rfl⟩⟩⟩
theorem fX6_147_5 : FL RX6 147 5 9 := ⟨RX6, TX6, 11, rfl, by decide, Or.inl ⟨_, q2208, Or.inl rfl⟩⟩
theorem gX6_147_5 {Y : MY} (hc : (yN Y).cls = RX6) : FW Y 147 5 9 := ⟨RX6, TX6, 11, rfl, by decide, Or.inl ⟨rfl, by rw [hc]; exact Or.inl ⟨_, q2208, Or.inl rfl⟩⟩⟩
theorem fX7_7_6 : FL RX7 7 6 0 := ⟨RX7, TX7, 2, rfl, by decide, Or.inl ⟨_, q956, Or.inl rfl⟩⟩
theorem gX7_7_6 {Y : MY} (hc : (yN Y).cls = RX7) (hn : (yN Y).name = "<init>") : FW Y 7 6 0 := ⟨RX7, TX7, 2, rfl, by decide, Or.inr ⟨rfl, by rw [hc]; rfl, hn, by rw [hc]; exact q956⟩⟩
theorem fX7_13_6 : FL RX7 13 6 1 := ⟨RX7, TX7, 2, rfl, by decide, Or.inl ⟨_, q957, Or.inl rfl⟩⟩
theorem gX7_13_6 {Y : MY} (hc : (yN Y).cls = RX7) (hn : (yN Y).name = "<init>") : FW Y 13 6 1 := ⟨RX7, TX7, 2, rfl, by decide, Or.inr ⟨rfl, by rw [hc]; rfl, hn, by rw [hc]; exact q957⟩⟩
theorem fX8_7_7 : FL RX8 7 7 0 := ⟨RX8, TX8, 4, rfl, by decide, Or.inl ⟨_, q1803, Or.inl rfl⟩⟩
theorem gX8_7_7 {Y : MY} (hc : (yN Y).cls = RX8) (hn : (yN Y).name = "<init>") : FW Y 7 7 0 := ⟨RX8, TX8, 4, rfl, by decide, Or.inr ⟨rfl, by rw [hc]; rfl, hn, by rw [hc]; exact q1803⟩⟩
theorem fX8_13_7 : FL RX8 13 7 1 := ⟨RX8, TX8, 4, rfl, by decide, Or.inl ⟨_, q1806, Or.inl rfl⟩⟩
theorem gX8_13_7 {Y : MY} (hc : (yN Y).cls = RX8) (hn : (yN Y).name = "<init>") : FW Y 13 7 1 := ⟨RX8, TX8, 4, rfl, by decide, Or.inr ⟨rfl, by rw [hc]; rfl, hn, by rw [hc]; exact q1806⟩⟩
theorem fX8_17_7 : FL RX8 17 7 2 := ⟨RX8, TX8, 4, rfl, by decide, Or.inl ⟨_, q1809, Or.inl rfl⟩⟩
theorem gX8_17_7 {Y : MY} (hc : (yN Y).cls = RX8) (hn : (yN Y).name = "<init>") : FW Y 17 7 2 := ⟨RX8, TX8, 4, rfl, by decide, Or.inr ⟨rfl, by rw [hc]; rfl, hn, by rw [hc]; exact q1809⟩⟩
theorem fX8_20_7 : FL RX8 20 7 3 := ⟨RX8, TX8, 4, rfl, by decide, Or.inl ⟨_, q1812, Or.inl rfl⟩⟩
theorem gX8_20_7 {Y : MY} (hc : (yN Y).cls = RX8) (hn : (yN Y).name = "<init>") : FW Y 20 7 3 := ⟨RX8, TX8, 4, rfl, by decide, Or.inr ⟨rfl, by rw [hc]; rfl, hn, by rw [hc]; exact q1812⟩⟩
theorem fX9_12_8 : FL RX9 12 8 1 := ⟨RX9, TX9, 4, rfl, by decide, Or.inl ⟨_, q777, Or.inl rfl⟩⟩
theorem gX9_12_8 {Y : MY} (hc : (yN Y).cls = RX9) (hn : (yN Y).name = "<init>") : FW Y 12 8 1 := ⟨RX9, TX9, 4, rfl, by decide, Or.inr ⟨rfl, by rw [hc]; rfl, hn, by rw [hc]; exact q777⟩⟩
theorem fX9_18_8 : FL RX9 18 8 0 := ⟨RX9, TX9, 4, rfl, by decide, Or.inl ⟨_, q776, Or.inl rfl⟩⟩
theorem gX9_18_8 {Y : MY} (hc : (yN Y).cls = RX9) (hn : (yN Y).name = "<init>") : FW Y 18 8 0 := ⟨RX9, TX9, 4, rfl, by decide, Or.inr ⟨rfl, by rw [hc]; rfl, hn, by rw [hc]; exact q776⟩⟩
theorem fX9_22_8 : FL RX9 22 8 2 := ⟨RX9, TX9, 4, rfl, by decide, Or.inl ⟨_, q779, Or.inl rfl⟩⟩
theorem gX9_22_8 {Y : MY} (hc : (yN Y).cls = RX9) : FW Y 22 8 2 := ⟨RX9, TX9, 4, rfl, by decide, Or.inl ⟨rfl, by rw [hc]; exact Or.inl ⟨_, q779, Or.inl rfl⟩⟩⟩
theorem fX9_36_8 : FL RX9 36 8 3 := ⟨RX9, TX9, 4, rfl, by decide, Or.inl ⟨_, q780, Or.inl rfl⟩⟩
theorem gX9_36_8 {Y : MY} (hc : (yN Y).cls = RX9) : FW Y 36 8 3 := ⟨RX9, TX9, 4, rfl, by decide, Or.inl ⟨rfl, by rw [hc]; exact Or.inl ⟨_, q780, Or.inl rfl⟩⟩⟩
theorem nJ1_59 : CN RJ1 59 18 6 := ⟨RJ29, TJ29, 6, rfl, q1495, q1496, q95⟩
theorem nJ1_222 : CN RJ1 222 17 1 := ⟨RJ25, TJ25, 1, rfl, q1383, q1384, q91⟩
theorem nJ1_242 : CN RJ1 242 14 1 := ⟨RJ21, TJ21, 1, rfl, q1291, q1292, q87⟩
theorem nJ1_269 : CN RJ1 269 16 4 := ⟨RJ24, TJ24, 4, rfl, q1351, q1352, q90⟩
theorem nJ10_267 : CN RJ10 267 19 4 := ⟨RJ34, TJ34, 4, rfl, q1632, q1633, q101⟩
theorem nJ21_13 : CN RJ21 13 15 4 := ⟨RJ23, TJ23, 4, rfl, q1314, q1315, q89⟩
theorem nJ27_1 : CN RJ27 1 22 1 := ⟨RJ27, TJ27, 1, rfl, q1020, q1764, q93⟩
theorem nJ36_45 : CN RJ36 45 13 4 := ⟨RJ12, TJ12, 4, rfl, q672, q378, q76⟩
theorem nJ38_13 : CN RJ38 13 10 9 := ⟨RJ1, TJ1, 9, rfl, q1747, q165, q64⟩
theorem nJ4_121 : CN RJ4 121 20 6 := ⟨RJ35, TJ35, 6, rfl, q1657, q1658, q102⟩
theorem nX0_8 : CN RX0 8 0 3 := ⟨RX1, TX1, 3, rfl, q112, q113, q59⟩
theorem nX0_93 : CN RX0 93 5 11 := ⟨RX6, TX6, 11, rfl, q2185, q2186, q79⟩
theorem nX1_22 : CN RX1 22 1 6 := ⟨RX2, TX2, 6, rfl, q120, q121, q60⟩
theorem nX1_30 : CN RX1 30 3 4 := ⟨RX4, TX4, 4, rfl, q158, q159, q62⟩
theorem nX1_40 : CN RX1 40 12 3 := ⟨RJ10, TJ10, 3, rfl, q351, q352, q74⟩
theorem nX1_47 : CN RX1 47 13 4 := ⟨RJ12, TJ12, 4, rfl, q377, q378, q76⟩
theorem nX1_226 : CN RX1 226 8 4 := ⟨RX9, TX9, 4, rfl, q768, q769, q110⟩
theorem nX2_10 : CN RX2 10 1 6 := ⟨RX2, TX2, 6, rfl, q1214, q121, q60⟩
theorem nX2_83 : CN RX2 83 7 4 := ⟨RX8, TX8, 4, rfl, q1795, q1796, q108⟩
theorem nX2_85 : CN RX2 85 6 2 := ⟨RX7, TX7, 2, rfl, q1797, q951, q105⟩
theorem nX3_10 : CN RX3 10 2 6 := ⟨RX3, TX3, 6, rfl, q125, q126, q61⟩
theorem nX3_31 : CN RX3 31 21 1 := ⟨RJ38, TJ38, 1, rfl, q1742, q1743, q106⟩
theorem nX3_44 : CN RX3 44 7 4 := ⟨RX8, TX8, 4, rfl, q1835, q1796, q108⟩
theorem nX3_46 : CN RX3 46 6 2 := ⟨RX7, TX7, 2, rfl, q1836, q951, q105⟩
theorem nX4_7 : CN RX4 7 10 9 := ⟨RJ1, TJ1, 9, rfl, q164, q165, q64⟩
theorem nX4_11 : CN RX4 11 3 4 := ⟨RX4, TX4, 4, rfl, q1219, q159, q62⟩
theorem nX4_16 : CN RX4 16 11 4 := ⟨RJ4, TJ4, 4, rfl, q199, q200, q67⟩
theorem nX4_18 : CN RX4 18 4 0 := ⟨RX5, TZ, 0, rfl, q201, q202, q68⟩
theorem nX4_58 : CN RX4 58 6 2 := ⟨RX7, TX7, 2, rfl, q950, q951, q105⟩
theorem nX9_9 : CN RX9 9 12 3 := ⟨RJ10, TJ10, 3, rfl, q774, q352, q74⟩
theorem nX9_52 : CN RX9 52 9 2 := ⟨RX10, TX10, 2, rfl, q822, q823, q111⟩
theorem kJ0_34_18 : CK RJ0 34 18 := ⟨RJ29, _, TJ29, 6, rfl, q1559, Or.inr q1480⟩
theorem kJ1_25_10 : CK RJ1 25 10 := ⟨RJ1, _, TJ1, 9, rfl, q1233, Or.inr q1238⟩
theorem kJ1_99_6 : CK RJ1 99 6 := ⟨RX7, _, TX7, 2, rfl, q1001, Or.inr q1006⟩
theorem kJ1_99_13 : CK RJ1 99 13 := ⟨RJ12, _, TJ12, 4, rfl, q1001, Or.inr q1173⟩
theorem kJ1_99_22 : CK RJ1 99 22 := ⟨RJ27, _, TJ27, 1, rfl, q1001, Or.inr q1014⟩
theorem kJ1_338_18 : CK RJ1 338 18 := ⟨RJ29, _, TJ29, 6, rfl, q1475, Or.inr q1480⟩
theorem kJ12_24_13 : CK RJ12 24 13 := ⟨RJ12, _, TJ12, 4, rfl, q1179, Or.inl rfl⟩
theorem kJ25_13_10 : CK RJ25 13 10 := ⟨RJ1, _, TJ1, 9, rfl, q1346, Or.inl rfl⟩
theorem kJ27_1_22 : CK RJ27 1 22 := ⟨RJ27, _, TJ27, 1, rfl, q1020, Or.inl rfl⟩
theorem kJ4_144_6 : CK RJ4 144 6 := ⟨RX7, _, TX7, 2, rfl, q1720, Or.inr q1006⟩
theorem kJ4_144_13 : CK RJ4 144 13 := ⟨RJ12, _, TJ12, 4, rfl, q1720, Or.inr q1173⟩
theorem kJ4_144_22 : CK RJ4 144 22 := ⟨RJ27, _, TJ27, 1, rfl, q1720, Or.inr q1014⟩
theorem kX1_22_1 : CK RX1 22 1 := ⟨RX2, _, TX2, 6, rfl, q120, Or.inl rfl⟩
theorem kX1_135_7 : CK RX1 135 7 := ⟨RX8, _, TX8, 4, rfl, q444, Or.inl rfl⟩
theorem kX1_249_9 : CK RX1 249 9 := ⟨RX10, _, TX10, 2, rfl, q2173, Or.inl rfl⟩
theorem kX2_77_22 : CK RX2 77 22 := ⟨RJ27, _, TJ27, 1, rfl, q1793, Or.inl rfl⟩
theorem kX4_45_7 : CK RX4 45 7 := ⟨RX8, _, TX8, 4, rfl, q1205, Or.inl rfl⟩
theorem kX5_8_7 : CK RX5 8 7 := ⟨RX8, _, TX8, 4, rfl, q985, Or.inl rfl⟩
theorem kX7_8_6 : CK RX7 8 6 := ⟨RX7, _, TX7, 2, rfl, q1012, Or.inl rfl⟩
theorem ok_0 : OK 0 := ⟨RX1, TX1, 3, rfl, q2534⟩
theorem ok_1 : OK 1 := ⟨RX2, TX2, 6, rfl, q2535⟩
theorem ok_2 : OK 2 := ⟨RX3, TX3, 6, rfl, q2536⟩
theorem ok_3 : OK 3 := ⟨RX4, TX4, 4, rfl, q2537⟩
theorem ok_4 : OK 4 := ⟨RX5, TZ, 0, rfl, q2540⟩
theorem ok_5 : OK 5 := ⟨RX6, TX6, 11, rfl, q2544⟩
theorem ok_6 : OK 6 := ⟨RX7, TX7, 2, rfl, q2554⟩
theorem ok_7 : OK 7 := ⟨RX8, TX8, 4, rfl, q2559⟩
theorem ok_8 : OK 8 := ⟨RX9, TX9, 4, rfl, q2562⟩
theorem ok_9 : OK 9 := ⟨RX10, TX10, 2, rfl, q2563⟩
theorem ok_10 : OK 10 := ⟨RJ1, TJ1, 9, rfl, q2538⟩
theorem ok_11 : OK 11 := ⟨RJ4, TJ4, 4, rfl, q2539⟩
theorem ok_12 : OK 12 := ⟨RJ10, TJ10, 3, rfl, q2542⟩
theorem ok_13 : OK 13 := ⟨RJ12, TJ12, 4, rfl, q2543⟩
theorem ok_14 : OK 14 := ⟨RJ21, TJ21, 1, rfl, q2547⟩
theorem ok_15 : OK 15 := ⟨RJ23, TJ23, 4, rfl, q2548⟩
theorem ok_16 : OK 16 := ⟨RJ24, TJ24, 4, rfl, q2558⟩
theorem ok_17 : OK 17 := ⟨RJ25, TJ25, 1, rfl, q2557⟩
theorem ok_18 : OK 18 := ⟨RJ29, TJ29, 6, rfl, q2549⟩
theorem ok_19 : OK 19 := ⟨RJ34, TJ34, 4, rfl, q2551⟩
theorem ok_20 : OK 20 := ⟨RJ35, TJ35, 6, rfl, q2552⟩
theorem ok_21 : OK 21 := ⟨RJ38, TJ38, 1, rfl, q2555⟩
theorem ok_22 : OK 22 := ⟨RJ27, TJ27, 1, rfl, q2556⟩
