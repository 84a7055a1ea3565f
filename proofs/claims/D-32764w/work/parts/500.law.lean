theorem wV_X0_160 : WV "MassclaimLaw" 160 yX1_begin cX1_begin 1 (some .int) 0 := ⟨lw_V q296 q297 q298 q65 q299, ⟨by decide, by decide⟩, by decide +kernel⟩
theorem wV_X0_163 : WV "MassclaimLaw" 163 yX4_begin cX4_begin 2 (some .int) 0 := ⟨lw_V q1928 q1929 q1930 q71 q1931, ⟨by decide, by decide⟩, by decide +kernel⟩
theorem wSH_X0_164 : WSH "MassclaimLaw" 164 yX0_goOn cX0_goOn 4 (some .int) [(0, 9, 12, 13)] 3 := ⟨lw_SW q446 q447 q64 q448, ⟨by decide, by decide⟩, by decide +kernel⟩
theorem wV_X0_169 : WV "MassclaimLaw" 169 yX4_goOn cX4_goOn 5 (some .int) 1 := ⟨lw_V q1933 q1934 q1935 q71 q1936, ⟨by decide, by decide⟩, by decide +kernel⟩
theorem wV_X0_170 : WV "MassclaimLaw" 170 yX4_thrown cX4_thrown 1 (some .int) 0 := ⟨lw_V q1822 q1823 q1824 q71 q1825, ⟨by decide, by decide⟩, by decide +kernel⟩
theorem wSH_X0_173 : WSH "MassclaimLaw" 173 yX0_person cX0_person 7 (some .int) [(0, 14, 17, 13), (0, 14, 21, 19)] 6 := ⟨lw_SW q582 q583 q64 q584, ⟨by decide, by decide⟩, by decide +kernel⟩
theorem wV_X0_176 : WV "MassclaimLaw" 176 yX4_person cX4_person 7 (some .int) 4 := ⟨lw_V q1972 q1973 q1974 q71 q1975, ⟨by decide, by decide⟩, by decide +kernel⟩
theorem wSH_X0_177 : WSH "MassclaimLaw" 177 yX0_sick cX0_sick 5 (some .int) [(0, 10, 13, 25), (0, 10, 17, 13), (0, 10, 21, 19)] 4 := ⟨lw_SW q826 q827 q64 q828, ⟨by decide, by decide⟩, by decide +kernel⟩
theorem wV_X0_180 : WV "MassclaimLaw" 180 yX4_sick cX4_sick 5 (some .int) 2 := ⟨lw_V q2063 q2064 q2065 q71 q2066, ⟨by decide, by decide⟩, by decide +kernel⟩
theorem wSH_X0_181 : WSH "MassclaimLaw" 181 yX0_die cX0_die 5 (some .int) [(0, 9, 12, 25), (0, 9, 16, 13), (0, 9, 20, 19)] 4 := ⟨lw_SW q869 q870 q64 q871, ⟨by decide, by decide⟩, by decide +kernel⟩
theorem wV_X0_183 : WV "MassclaimLaw" 183 yX4_die cX4_die 6 (some .long) 2 := ⟨lw_V q2072 q2073 q2074 q71 q2075, ⟨by decide, by decide⟩, by decide +kernel⟩
theorem wSH_X0_184 : WSH "MassclaimLaw" 184 yX0_define cX0_define 6 (some .int) [(0, 12, 15, 13), (0, 12, 19, 19)] 5 := ⟨lw_SW q879 q880 q64 q881, ⟨by decide, by decide⟩, by decide +kernel⟩
theorem wV_X0_187 : WV "MassclaimLaw" 187 yX4_define cX4_define 5 (some .int) 3 := ⟨lw_V q2082 q2083 q2084 q71 q2085, ⟨by decide, by decide⟩, by decide +kernel⟩
theorem wV_X0_191 : WV "MassclaimLaw" 191 yX4_subclass cX4_subclass 4 (some .int) 3 := ⟨lw_V q2096 q2097 q2098 q71 q2099, ⟨by decide, by decide⟩, by decide +kernel⟩
theorem wSH_X0_188 : WSH "MassclaimLaw" 188 yX0_subclass cX0_subclass 6 (some .int) [(0, 12, 15, 13), (0, 12, 19, 19)] 5 := ⟨lw_SW q900 q901 q64 q902, ⟨by decide, by decide⟩, by decide +kernel⟩
theorem wSH_X0_192 : WSH "MassclaimLaw" 192 yX0_personAt cX0_personAt 5 (some .int) [(0, 10, 13, 25), (0, 10, 17, 13)] 4 := ⟨lw_SW q928 q929 q64 q930, ⟨by decide, by decide⟩, by decide +kernel⟩
theorem wV_X0_194 : WV "MassclaimLaw" 194 yX4_personAt cX4_personAt 4 (some .int) 2 := ⟨lw_V q2100 q2101 q2102 q71 q2103, ⟨by decide, by decide⟩, by decide +kernel⟩
theorem wSH_X0_195 : WSH "MassclaimLaw" 195 yX0_moneyOf cX0_moneyOf 5 (some .int) [(0, 9, 12, 25), (0, 9, 16, 13)] 4 := ⟨lw_SW q978 q979 q64 q980, ⟨by decide, by decide⟩, by decide +kernel⟩
theorem wV_X0_197 : WV "MassclaimLaw" 197 yX4_moneyOf cX4_moneyOf 4 (some .long) 2 := ⟨lw_V q2152 q2153 q2154 q71 q2155, ⟨by decide, by decide⟩, by decide +kernel⟩
theorem wSH_X0_198 : WSH "MassclaimLaw" 198 yX0_heirAt cX0_heirAt 5 (some .int) [(0, 9, 12, 25), (0, 9, 16, 19)] 4 := ⟨lw_SW q991 q992 q64 q993, ⟨by decide, by decide⟩, by decide +kernel⟩
theorem wV_X0_200 : WV "MassclaimLaw" 200 yX4_heirAt cX4_heirAt 3 (some .long) 2 := ⟨lw_V q2162 q2163 q2164 q71 q2165, ⟨by decide, by decide⟩, by decide +kernel⟩
theorem wSH_X0_201 : WSH "MassclaimLaw" 201 yX0_notice cX0_notice 5 (some .int) [(0, 10, 13, 13), (0, 10, 17, 19)] 4 := ⟨lw_SW q999 q1000 q64 q1001, ⟨by decide, by decide⟩, by decide +kernel⟩
theorem wV_X0_203 : WV "MassclaimLaw" 203 yX4_notice cX4_notice 7 (some .int) 2 := ⟨lw_V q2166 q2167 q2168 q71 q2169, ⟨by decide, by decide⟩, by decide +kernel⟩
theorem wV_X0_207 : WV "MassclaimLaw" 207 yX4_address cX4_address 4 (some .boolean) 2 := ⟨lw_V q2171 q2172 q2173 q71 q2174, ⟨by decide, by decide⟩, by decide +kernel⟩
theorem wSH_X0_204 : WSH "MassclaimLaw" 204 yX0_address cX0_address 5 (some .int) [(0, 17, 20, 25)] 4 := ⟨lw_SW q1007 q1008 q64 q1009, ⟨by decide, by decide⟩, by decide +kernel⟩
theorem wV_X0_210 : WV "MassclaimLaw" 210 yX4_optOut cX4_optOut 5 (some .boolean) 2 := ⟨lw_V q2175 q2176 q2177 q71 q2178, ⟨by decide, by decide⟩, by decide +kernel⟩
theorem wSH_X0_208 : WSH "MassclaimLaw" 208 yX0_optOut cX0_optOut 5 (some .int) [(0, 17, 20, 25)] 4 := ⟨lw_SW q1014 q1015 q64 q1016, ⟨by decide, by decide⟩, by decide +kernel⟩
theorem wSH_X0_211 : WSH "MassclaimLaw" 211 yX0_optIn cX0_optIn 4 (some .int) [(0, 16, 19, 25)] 3 := ⟨lw_SW q1021 q1022 q64 q1023, ⟨by decide, by decide⟩, by decide +kernel⟩
theorem wV_X0_213 : WV "MassclaimLaw" 213 yX4_optIn cX4_optIn 4 (some .boolean) 1 := ⟨lw_V q2179 q2180 q2181 q71 q2182, ⟨by decide, by decide⟩, by decide +kernel⟩
theorem wSH_X0_214 : WSH "MassclaimLaw" 214 yX0_draw cX0_draw 4 (some .int) [(0, 9, 12, 25)] 3 := ⟨lw_SW q1028 q1029 q64 q1030, ⟨by decide, by decide⟩, by decide +kernel⟩
theorem wV_X0_216 : WV "MassclaimLaw" 216 yX4_draw cX4_draw 6 (some .int) 1 := ⟨lw_V q2183 q2184 q2185 q71 q2186, ⟨by decide, by decide⟩, by decide +kernel⟩
theorem wSH_X0_217 : WSH "MassclaimLaw" 217 yX0_verdict cX0_verdict 5 (some .int) [(0, 10, 13, 25), (0, 10, 17, 13), (0, 10, 21, 19)] 4 := ⟨lw_SW q1295 q1296 q64 q1297, ⟨by decide, by decide⟩, by decide +kernel⟩
theorem wV_X0_219 : WV "MassclaimLaw" 219 yX4_verdict cX4_verdict 4 (some .int) 2 := ⟨lw_V q2188 q2189 q2190 q71 q2191, ⟨by decide, by decide⟩, by decide +kernel⟩
theorem wSH_X0_220 : WSH "MassclaimLaw" 220 yX0_offer cX0_offer 4 (some .int) [(0, 9, 12, 25)] 3 := ⟨lw_SW q1307 q1308 q64 q1309, ⟨by decide, by decide⟩, by decide +kernel⟩
theorem wV_X0_222 : WV "MassclaimLaw" 222 yX4_offer cX4_offer 2 (some .int) 1 := ⟨lw_V q2197 q2198 q2199 q71 q2200, ⟨by decide, by decide⟩, by decide +kernel⟩
theorem wSH_X0_223 : WSH "MassclaimLaw" 223 yX0_defendant cX0_defendant 5 (some .int) [(0, 10, 13, 13), (0, 10, 17, 19)] 4 := ⟨lw_SW q1317 q1318 q64 q1319, ⟨by decide, by decide⟩, by decide +kernel⟩
theorem wV_X0_225 : WV "MassclaimLaw" 225 yX4_defendant cX4_defendant 5 (some .int) 2 := ⟨lw_V q2201 q2202 q2203 q71 q2204, ⟨by decide, by decide⟩, by decide +kernel⟩
theorem wSH_X0_226 : WSH "MassclaimLaw" 226 yX0_payIn cX0_payIn 5 (some .int) [(0, 9, 12, 25), (0, 9, 16, 13), (0, 9, 20, 19)] 4 := ⟨lw_SW q1355 q1356 q64 q1357, ⟨by decide, by decide⟩, by decide +kernel⟩
theorem wV_X0_228 : WV "MassclaimLaw" 228 yX4_payIn cX4_payIn 6 (some .long) 2 := ⟨lw_V q2233 q2234 q2235 q71 q2236, ⟨by decide, by decide⟩, by decide +kernel⟩
theorem wSH_X0_229 : WSH "MassclaimLaw" 229 yX0_fail cX0_fail 4 (some .int) [(0, 8, 11, 25), (0, 8, 14, 19)] 3 := ⟨lw_SW q1363 q1364 q64 q1365, ⟨by decide, by decide⟩, by decide +kernel⟩
theorem wV_X0_231 : WV "MassclaimLaw" 231 yX4_fail cX4_fail 5 (some .long) 1 := ⟨lw_V q2242 q2243 q2244 q71 q2245, ⟨by decide, by decide⟩, by decide +kernel⟩
theorem wSH_X0_232 : WSH "MassclaimLaw" 232 yX0_defendantAt cX0_defendantAt 5 (some .int) [(0, 9, 12, 25), (0, 9, 16, 13)] 4 := ⟨lw_SW q1377 q1378 q64 q1379, ⟨by decide, by decide⟩, by decide +kernel⟩
theorem wV_X0_234 : WV "MassclaimLaw" 234 yX4_defendantAt cX4_defendantAt 4 (some .long) 2 := ⟨lw_V q2250 q2251 q2252 q71 q2253, ⟨by decide, by decide⟩, by decide +kernel⟩
theorem wSH_X0_235 : WSH "MassclaimLaw" 235 yX0_propose cX0_propose 6 (some .int) [(0, 12, 15, 13), (0, 12, 19, 19)] 5 := ⟨lw_SW q1384 q1385 q64 q1386, ⟨by decide, by decide⟩, by decide +kernel⟩
theorem wV_X0_237 : WV "MassclaimLaw" 237 yX4_propose cX4_propose 6 (some .int) 3 := ⟨lw_V q2254 q2255 q2256 q71 q2257, ⟨by decide, by decide⟩, by decide +kernel⟩
theorem wSH_X0_238 : WSH "MassclaimLaw" 238 yX0_approve cX0_approve 3 (some .int) [(0, 8, 11, 19)] 2 := ⟨lw_SW q1421 q1422 q64 q1423, ⟨by decide, by decide⟩, by decide +kernel⟩
theorem wV_X0_241 : WV "MassclaimLaw" 241 yX4_approve cX4_approve 2 (some .int) 0 := ⟨lw_V q2259 q2260 q2261 q71 q2262, ⟨by decide, by decide⟩, by decide +kernel⟩
theorem wV_X0_244 : WV "MassclaimLaw" 244 yX4_vote cX4_vote 6 (some .int) 2 := ⟨lw_V q2279 q2280 q2281 q71 q2282, ⟨by decide, by decide⟩, by decide +kernel⟩
theorem wSH_X0_242 : WSH "MassclaimLaw" 242 yX0_vote cX0_vote 5 (some .int) [(0, 10, 13, 25), (0, 10, 17, 19)] 4 := ⟨lw_SW q1481 q1482 q64 q1483, ⟨by decide, by decide⟩, by decide +kernel⟩
theorem wSH_X0_245 : WSH "MassclaimLaw" 245 yX0_object cX0_object 5 (some .int) [(0, 10, 13, 25), (0, 10, 17, 13), (0, 10, 21, 19)] 4 := ⟨lw_SW q1488 q1489 q64 q1490, ⟨by decide, by decide⟩, by decide +kernel⟩
theorem wV_X0_247 : WV "MassclaimLaw" 247 yX4_object cX4_object 6 (some .int) 2 := ⟨lw_V q2283 q2284 q2285 q71 q2286, ⟨by decide, by decide⟩, by decide +kernel⟩
theorem wSH_X0_248 : WSH "MassclaimLaw" 248 yX0_raise cX0_raise 4 (some .int) [(0, 8, 11, 13), (0, 8, 14, 19)] 3 := ⟨lw_SW q1495 q1496 q64 q1497, ⟨by decide, by decide⟩, by decide +kernel⟩
theorem wV_X0_250 : WV "MassclaimLaw" 250 yX4_raise cX4_raise 3 (some .long) 1 := ⟨lw_V q2287 q2288 q2289 q71 q2290, ⟨by decide, by decide⟩, by decide +kernel⟩
theorem wSH_X0_251 : WSH "MassclaimLaw" 251 yX0_grid cX0_grid 6 (some .int) [(0, 12, 15, 25), (0, 12, 19, 13), (0, 12, 23, 19)] 5 := ⟨lw_SW q1506 q1507 q64 q1508, ⟨by decide, by decide⟩, by decide +kernel⟩
theorem wV_X0_253 : WV "MassclaimLaw" 253 yX4_grid cX4_grid 6 (some .int) 3 := ⟨lw_V q2295 q2296 q2297 q71 q2298, ⟨by decide, by decide⟩, by decide +kernel⟩
theorem wSH_X0_254 : WSH "MassclaimLaw" 254 yX0_settings cX0_settings 6 (some .int) [(0, 12, 15, 13), (0, 12, 19, 19)] 5 := ⟨lw_SW q1514 q1515 q64 q1516, ⟨by decide, by decide⟩, by decide +kernel⟩
theorem wV_X0_256 : WV "MassclaimLaw" 256 yX4_settings cX4_settings 6 (some .int) 3 := ⟨lw_V q2300 q2301 q2302 q71 q2303, ⟨by decide, by decide⟩, by decide +kernel⟩
theorem wSH_X0_257 : WSH "MassclaimLaw" 257 yX0_claim cX0_claim 7 (some .int) [(0, 14, 17, 25), (0, 14, 21, 13), (0, 14, 25, 19)] 6 := ⟨lw_SW q1521 q1522 q64 q1523, ⟨by decide, by decide⟩, by decide +kernel⟩
theorem wV_X0_259 : WV "MassclaimLaw" 259 yX4_claim cX4_claim 9 (some .int) 4 := ⟨lw_V q2304 q2305 q2306 q71 q2307, ⟨by decide, by decide⟩, by decide +kernel⟩
theorem wSH_X0_260 : WSH "MassclaimLaw" 260 yX0_claimAt cX0_claimAt 5 (some .int) [(0, 10, 13, 25), (0, 10, 17, 13)] 4 := ⟨lw_SW q1610 q1611 q64 q1612, ⟨by decide, by decide⟩, by decide +kernel⟩
theorem wV_X0_262 : WV "MassclaimLaw" 262 yX4_claimAt cX4_claimAt 4 (some .int) 2 := ⟨lw_V q2364 q2365 q2366 q71 q2367, ⟨by decide, by decide⟩, by decide +kernel⟩
theorem wSH_X0_263 : WSH "MassclaimLaw" 263 yX0_takeOver cX0_takeOver 5 (some .int) [(0, 10, 13, 25), (0, 10, 17, 13), (0, 10, 21, 19)] 4 := ⟨lw_SW q1627 q1628 q64 q1629, ⟨by decide, by decide⟩, by decide +kernel⟩
theorem wV_X0_265 : WV "MassclaimLaw" 265 yX4_takeOver cX4_takeOver 5 (some .int) 2 := ⟨lw_V q2387 q2388 q2389 q71 q2390, ⟨by decide, by decide⟩, by decide +kernel⟩
theorem wSH_X0_266 : WSH "MassclaimLaw" 266 yX0_parts cX0_parts 5 (some .int) [(0, 10, 13, 25), (0, 10, 17, 13)] 4 := ⟨lw_SW q1634 q1635 q64 q1636, ⟨by decide, by decide⟩, by decide +kernel⟩
theorem wV_X0_268 : WV "MassclaimLaw" 268 yX4_parts cX4_parts 4 (some .int) 2 := ⟨lw_V q2391 q2392 q2393 q71 q2394, ⟨by decide, by decide⟩, by decide +kernel⟩
theorem wSH_X0_269 : WSH "MassclaimLaw" 269 yX0_cure cX0_cure 5 (some .int) [(0, 10, 13, 25), (0, 10, 17, 13), (0, 10, 21, 19)] 4 := ⟨lw_SW q1642 q1643 q64 q1644, ⟨by decide, by decide⟩, by decide +kernel⟩
theorem wV_X0_271 : WV "MassclaimLaw" 271 yX4_cure cX4_cure 4 (some .int) 2 := ⟨lw_V q2396 q2397 q2398 q71 q2399, ⟨by decide, by decide⟩, by decide +kernel⟩
theorem wSH_X0_272 : WSH "MassclaimLaw" 272 yX0_sample cX0_sample 4 (some .int) [(0, 9, 12, 13)] 3 := ⟨lw_SW q1649 q1650 q64 q1651, ⟨by decide, by decide⟩, by decide +kernel⟩
theorem wV_X0_274 : WV "MassclaimLaw" 274 yX4_sample cX4_sample 5 (some .int) 1 := ⟨lw_V q2401 q2402 q2403 q71 q2404, ⟨by decide, by decide⟩, by decide +kernel⟩
theorem wV_X0_277 : WV "MassclaimLaw" 277 yX4_audit cX4_audit 4 (some .int) 2 := ⟨lw_V q2405 q2406 q2407 q71 q2408, ⟨by decide, by decide⟩, by decide +kernel⟩
theorem wSH_X0_275 : WSH "MassclaimLaw" 275 yX0_audit cX0_audit 5 (some .int) [(0, 10, 13, 25), (0, 10, 17, 19)] 4 := ⟨lw_SW q1656 q1657 q64 q1658, ⟨by decide, by decide⟩, by decide +kernel⟩
theorem wV_X0_280 : WV "MassclaimLaw" 280 yX4_appeal cX4_appeal 4 (some .int) 2 := ⟨lw_V q2409 q2410 q2411 q71 q2412, ⟨by decide, by decide⟩, by decide +kernel⟩
theorem wSH_X0_278 : WSH "MassclaimLaw" 278 yX0_appeal cX0_appeal 5 (some .int) [(0, 10, 13, 25), (0, 10, 17, 19)] 4 := ⟨lw_SW q1663 q1664 q64 q1665, ⟨by decide, by decide⟩, by decide +kernel⟩
theorem wSH_X0_281 : WSH "MassclaimLaw" 281 yX0_percent cX0_percent 4 (some .int) [(0, 16, 19, 13), (0, 16, 22, 19)] 3 := ⟨lw_SW q1670 q1671 q64 q1672, ⟨by decide, by decide⟩, by decide +kernel⟩
theorem wV_X0_283 : WV "MassclaimLaw" 283 yX4_percent cX4_percent 3 (some .boolean) 1 := ⟨lw_V q2413 q2414 q2415 q71 q2416, ⟨by decide, by decide⟩, by decide +kernel⟩
theorem wSH_X0_284 : WSH "MassclaimLaw" 284 yX0_pay cX0_pay 3 (some .int) [(0, 7, 10, 19)] 2 := ⟨lw_SW q1686 q1687 q64 q1688, ⟨by decide, by decide⟩, by decide +kernel⟩
theorem wV_X0_286 : WV "MassclaimLaw" 286 yX4_pay cX4_pay 9 (some .long) 0 := ⟨lw_V q2425 q2426 q2427 q71 q2428, ⟨by decide, by decide⟩, by decide +kernel⟩
theorem wV_X0_289 : WV "MassclaimLaw" 289 yX4_lien cX4_lien 5 (some .int) 3 := ⟨lw_V q2471 q2472 q2473 q71 q2474, ⟨by decide, by decide⟩, by decide +kernel⟩
theorem wSH_X0_287 : WSH "MassclaimLaw" 287 yX0_lien cX0_lien 6 (some .int) [(0, 12, 15, 25), (0, 12, 19, 13), (0, 12, 23, 19)] 5 := ⟨lw_SW q1740 q1741 q64 q1742, ⟨by decide, by decide⟩, by decide +kernel⟩
theorem wSH_X0_290 : WSH "MassclaimLaw" 290 yX0_waive cX0_waive 4 (some .int) [(0, 9, 12, 25)] 3 := ⟨lw_SW q1773 q1774 q64 q1775, ⟨by decide, by decide⟩, by decide +kernel⟩
theorem wV_X0_292 : WV "MassclaimLaw" 292 yX4_waive cX4_waive 4 (some .int) 1 := ⟨lw_V q2490 q2491 q2492 q71 q2493, ⟨by decide, by decide⟩, by decide +kernel⟩
theorem wSH_X0_293 : WSH "MassclaimLaw" 293 yX0_end cX0_end 3 (some .int) [(0, 7, 10, 19)] 2 := ⟨lw_SW q1781 q1782 q64 q1783, ⟨by decide, by decide⟩, by decide +kernel⟩
theorem wV_X0_295 : WV "MassclaimLaw" 295 yX4_end cX4_end 2 (some .long) 0 := ⟨lw_V q2494 q2495 q2496 q71 q2497, ⟨by decide, by decide⟩, by decide +kernel⟩
theorem wSH_X0_296 : WSH "MassclaimLaw" 296 yX0_fundAt cX0_fundAt 4 (some .int) [(0, 8, 11, 13)] 3 := ⟨lw_SW q1788 q1789 q64 q1790, ⟨by decide, by decide⟩, by decide +kernel⟩
theorem wV_X0_298 : WV "MassclaimLaw" 298 yX4_fundAt cX4_fundAt 5 (some .long) 1 := ⟨lw_V q2502 q2503 q2504 q71 q2505, ⟨by decide, by decide⟩, by decide +kernel⟩
theorem wSH_X0_299 : WSH "MassclaimLaw" 299 yX0_lawyerAt cX0_lawyerAt 4 (some .int) [(0, 8, 11, 13)] 3 := ⟨lw_SW q1804 q1805 q64 q1806, ⟨by decide, by decide⟩, by decide +kernel⟩
theorem wV_X0_301 : WV "MassclaimLaw" 301 yX4_lawyerAt cX4_lawyerAt 2 (some .long) 1 := ⟨lw_V q2520 q2521 q2522 q71 q2523, ⟨by decide, by decide⟩, by decide +kernel⟩
theorem wSH_X0_302 : WSH "MassclaimLaw" 302 yX0_count cX0_count 4 (some .int) [(0, 9, 12, 13)] 3 := ⟨lw_SW q1811 q1812 q64 q1813, ⟨by decide, by decide⟩, by decide +kernel⟩
theorem wV_X0_304 : WV "MassclaimLaw" 304 yX4_count cX4_count 4 (some .int) 1 := ⟨lw_V q2524 q2525 q2526 q71 q2527, ⟨by decide, by decide⟩, by decide +kernel⟩
theorem wV_X0_305 : WV "MassclaimLaw" 305 yX1_errors cX1_errors 4 (some .int) 0 := ⟨lw_V q300 q301 q302 q65 q303, ⟨by decide, by decide⟩, by decide +kernel⟩
theorem wV_X0_308 : WV "MassclaimLaw" 308 yX4_errors cX4_errors 1 (some .int) 0 := ⟨lw_V q2532 q2533 q2534 q71 q2535, ⟨by decide, by decide⟩, by decide +kernel⟩
theorem wV_X0_309 : WV "MassclaimLaw" 309 yX1_paidBits cX1_paidBits 7 (some .int) 0 := ⟨lw_V q408 q409 q410 q65 q411, ⟨by decide, by decide⟩, by decide +kernel⟩
theorem wV_X0_312 : WV "MassclaimLaw" 312 yX4_paidBits cX4_paidBits 6 (some .int) 0 := ⟨lw_V q2536 q2537 q2538 q71 q2539, ⟨by decide, by decide⟩, by decide +kernel⟩
theorem wV_X0_313 : WV "MassclaimLaw" 313 yX1_meanDelivered cX1_meanDelivered 1 (some .double) 0 := ⟨lw_V q438 q439 q440 q65 q441, ⟨by decide, by decide⟩, by decide +kernel⟩
theorem wV_X0_317 : WV "MassclaimLaw" 317 yX4_meanDelivered cX4_meanDelivered 1 (some .double) 0 := ⟨lw_V q2541 q2542 q2543 q71 q2544, ⟨by decide, by decide⟩, by decide +kernel⟩
theorem nl_X0_8 : NL "MassclaimLaw" 8 0 19 := ⟨_, _, _, _, rfl, by decide, in_X1, tyX1_ok, by decide, q107, q108, q65⟩
theorem wI_X0_156 : WI "MassclaimLaw" 156 yX1_init cX1_init 2 0 := ⟨lw_meth q111, q65, q109, q110, rfl, ⟨by decide, by decide⟩, by decide +kernel⟩
theorem nl_X0_157 : NL "MassclaimLaw" 157 3 29 := ⟨_, _, _, _, rfl, by decide, in_X4, tyX4_ok, by decide, q1826, q1827, q71⟩
theorem wI_X0_159 : WI "MassclaimLaw" 159 yX4_init cX4_init 1 0 := ⟨lw_meth q1830, q71, q1828, q1829, rfl, ⟨by decide, by decide⟩, by decide +kernel⟩
section WKL
variable {p : Program} {l : Launch} {e : Env} {s : State} {m : MethodId} {below : List Frame} {meth : Method} {c : Code} {D : va_G}
def f_L_law_3277 (L : Nat) (xs : Nat → Int32) (k23 : Unit → Nat → Nat → Nat → Int32 → Hp → Rt Int32) (x0 : Unit) (x1 : Nat) (x2 : Nat) (x3 : Nat) (x4 : Int32) (h : Hp) : Rt Int32 :=
  vl (x4 + (5 : Int32)) fun v1 => k23 x0 x1 x2 x3 v1 h
def f_L_law_240 (L : Nat) (xs : Nat → Int32) (k23 : Unit → Nat → Nat → Nat → Int32 → Hp → Rt Int32) (x0 : Unit) (x1 : Nat) (x2 : Nat) (x3 : Nat) (x4 : Int32) (h : Hp) : Rt Int32 :=
  gd (kC h x1 = 1) <| bdN (f_X1_begin x1 h) fun v2 h3 => gd (kC h3 x2 = 4) <| bdN (f_X4_begin x2 h3) fun v5 h6 => if v2 = v5 then
  (f_L_law_3277 L xs k23 x0 x1 x2 x3 x4 h6)
  else
  (some (.inl (0 : Int32), h6))
def f_L_law_306 (L : Nat) (xs : Nat → Int32) (k23 : Unit → Nat → Nat → Nat → Int32 → Hp → Rt Int32) (x0 : Unit) (x1 : Nat) (x2 : Nat) (x3 : Nat) (x4 : Int32) (h : Hp) : Rt Int32 :=
  f_L_law_3277 L xs k23 x0 x1 x2 x3 x4 h
def f_L_law_253 (L : Nat) (xs : Nat → Int32) (k23 : Unit → Nat → Nat → Nat → Int32 → Hp → Rt Int32) (x0 : Unit) (x1 : Nat) (x2 : Nat) (x3 : Nat) (x4 : Int32) (h : Hp) : Rt Int32 :=
  gd (ixo (x4 + (1 : Int32)) L) <| bdN (f_X0_goOn x1 (xs ((x4 + (1 : Int32))).toNatClampNeg) x3 h) fun v9 h10 => gd (ixo (x4 + (1 : Int32)) L) <| gd (kC h10 x2 = 4) <| bdN (f_X4_goOn x2 (xs ((x4 + (1 : Int32))).toNatClampNeg) h10) fun v12 h13 => gd (kC h13 x2 = 4) <| bdN (f_X4_thrown x2 h13) fun v15 h16 => if v15 = v9 then
  (if v9 = 0 then
  (gd (kC h16 x3 = 102 ∧ ixo (0 : Int32) (kN h16 x3)) <| if (jL h16 x3 ((0 : Int32)).toNatClampNeg) = (v12.toInt64) then
  (f_L_law_306 L xs k23 x0 x1 x2 x3 x4 h16)
  else
  (some (.inl (0 : Int32), h16)))
  else
  (f_L_law_306 L xs k23 x0 x1 x2 x3 x4 h16))
  else
  (some (.inl (0 : Int32), h16))
def f_L_law_398 (L : Nat) (xs : Nat → Int32) (k23 : Unit → Nat → Nat → Nat → Int32 → Hp → Rt Int32) (x0 : Unit) (x1 : Nat) (x2 : Nat) (x3 : Nat) (x4 : Int32) (h : Hp) : Rt Int32 :=
  f_L_law_3277 L xs k23 x0 x1 x2 x3 x4 h
def f_L_law_309 (L : Nat) (xs : Nat → Int32) (k23 : Unit → Nat → Nat → Nat → Int32 → Hp → Rt Int32) (x0 : Unit) (x1 : Nat) (x2 : Nat) (x3 : Nat) (x4 : Int32) (h : Hp) : Rt Int32 :=
  gd (ixo (x4 + (1 : Int32)) L) <| gd (ixo (x4 + (2 : Int32)) L) <| gd (ixo (x4 + (3 : Int32)) L) <| gd (ixo (x4 + (4 : Int32)) L) <| bdN (f_X0_person x1 (xs ((x4 + (1 : Int32))).toNatClampNeg) (xs ((x4 + (2 : Int32))).toNatClampNeg) (xs ((x4 + (3 : Int32))).toNatClampNeg) (xs ((x4 + (4 : Int32))).toNatClampNeg) x3 h) fun v23 h24 => gd (ixo (x4 + (1 : Int32)) L) <| gd (ixo (x4 + (2 : Int32)) L) <| gd (ixo (x4 + (3 : Int32)) L) <| gd (ixo (x4 + (4 : Int32)) L) <| gd (kC h24 x2 = 4) <| bdN (f_X4_person x2 (xs ((x4 + (1 : Int32))).toNatClampNeg) (xs ((x4 + (2 : Int32))).toNatClampNeg) (xs ((x4 + (3 : Int32))).toNatClampNeg) (xs ((x4 + (4 : Int32))).toNatClampNeg) h24) fun v29 h30 => gd (kC h30 x2 = 4) <| bdN (f_X4_thrown x2 h30) fun v32 h33 => if v32 = v23 then
  (if v23 = 0 then
  (gd (kC h33 x3 = 102 ∧ ixo (0 : Int32) (kN h33 x3)) <| if (jL h33 x3 ((0 : Int32)).toNatClampNeg) = (v29.toInt64) then
  (f_L_law_398 L xs k23 x0 x1 x2 x3 x4 h33)
  else
  (some (.inl (0 : Int32), h33)))
  else
  (f_L_law_398 L xs k23 x0 x1 x2 x3 x4 h33))
  else
  (some (.inl (0 : Int32), h33))
def f_L_law_466 (L : Nat) (xs : Nat → Int32) (k23 : Unit → Nat → Nat → Nat → Int32 → Hp → Rt Int32) (x0 : Unit) (x1 : Nat) (x2 : Nat) (x3 : Nat) (x4 : Int32) (h : Hp) : Rt Int32 :=
  f_L_law_3277 L xs k23 x0 x1 x2 x3 x4 h
def f_L_law_401 (L : Nat) (xs : Nat → Int32) (k23 : Unit → Nat → Nat → Nat → Int32 → Hp → Rt Int32) (x0 : Unit) (x1 : Nat) (x2 : Nat) (x3 : Nat) (x4 : Int32) (h : Hp) : Rt Int32 :=
  gd (ixo (x4 + (1 : Int32)) L) <| gd (ixo (x4 + (2 : Int32)) L) <| bdN (f_X0_sick x1 (xs ((x4 + (1 : Int32))).toNatClampNeg) (xs ((x4 + (2 : Int32))).toNatClampNeg) x3 h) fun v38 h39 => gd (ixo (x4 + (1 : Int32)) L) <| gd (ixo (x4 + (2 : Int32)) L) <| gd (kC h39 x2 = 4) <| bdN (f_X4_sick x2 (xs ((x4 + (1 : Int32))).toNatClampNeg) (xs ((x4 + (2 : Int32))).toNatClampNeg) h39) fun v42 h43 => gd (kC h43 x2 = 4) <| bdN (f_X4_thrown x2 h43) fun v45 h46 => if v45 = v38 then
  (if v38 = 0 then
  (gd (kC h46 x3 = 102 ∧ ixo (0 : Int32) (kN h46 x3)) <| if (jL h46 x3 ((0 : Int32)).toNatClampNeg) = (v42.toInt64) then
  (f_L_law_466 L xs k23 x0 x1 x2 x3 x4 h46)
  else
  (some (.inl (0 : Int32), h46)))
  else
  (f_L_law_466 L xs k23 x0 x1 x2 x3 x4 h46))
  else
  (some (.inl (0 : Int32), h46))
def f_L_law_533 (L : Nat) (xs : Nat → Int32) (k23 : Unit → Nat → Nat → Nat → Int32 → Hp → Rt Int32) (x0 : Unit) (x1 : Nat) (x2 : Nat) (x3 : Nat) (x4 : Int32) (h : Hp) : Rt Int32 :=
  f_L_law_3277 L xs k23 x0 x1 x2 x3 x4 h
def f_L_law_469 (L : Nat) (xs : Nat → Int32) (k23 : Unit → Nat → Nat → Nat → Int32 → Hp → Rt Int32) (x0 : Unit) (x1 : Nat) (x2 : Nat) (x3 : Nat) (x4 : Int32) (h : Hp) : Rt Int32 :=
  gd (ixo (x4 + (1 : Int32)) L) <| gd (ixo (x4 + (2 : Int32)) L) <| bdN (f_X0_die x1 (xs ((x4 + (1 : Int32))).toNatClampNeg) (xs ((x4 + (2 : Int32))).toNatClampNeg) x3 h) fun v51 h52 => gd (ixo (x4 + (1 : Int32)) L) <| gd (ixo (x4 + (2 : Int32)) L) <| gd (kC h52 x2 = 4) <| bdN (f_X4_die x2 (xs ((x4 + (1 : Int32))).toNatClampNeg) (xs ((x4 + (2 : Int32))).toNatClampNeg) h52) fun v55 h56 => gd (kC h56 x2 = 4) <| bdN (f_X4_thrown x2 h56) fun v58 h59 => if v58 = v51 then
  (if v51 = 0 then
  (gd (kC h59 x3 = 102 ∧ ixo (0 : Int32) (kN h59 x3)) <| if (jL h59 x3 ((0 : Int32)).toNatClampNeg) = v55 then
  (f_L_law_533 L xs k23 x0 x1 x2 x3 x4 h59)
  else
  (some (.inl (0 : Int32), h59)))
  else
  (f_L_law_533 L xs k23 x0 x1 x2 x3 x4 h59))
  else
  (some (.inl (0 : Int32), h59))
def f_L_law_613 (L : Nat) (xs : Nat → Int32) (k23 : Unit → Nat → Nat → Nat → Int32 → Hp → Rt Int32) (x0 : Unit) (x1 : Nat) (x2 : Nat) (x3 : Nat) (x4 : Int32) (h : Hp) : Rt Int32 :=
  f_L_law_3277 L xs k23 x0 x1 x2 x3 x4 h
def f_L_law_536 (L : Nat) (xs : Nat → Int32) (k23 : Unit → Nat → Nat → Nat → Int32 → Hp → Rt Int32) (x0 : Unit) (x1 : Nat) (x2 : Nat) (x3 : Nat) (x4 : Int32) (h : Hp) : Rt Int32 :=
  gd (ixo (x4 + (1 : Int32)) L) <| gd (ixo (x4 + (2 : Int32)) L) <| gd (ixo (x4 + (3 : Int32)) L) <| bdN (f_X0_define x1 (xs ((x4 + (1 : Int32))).toNatClampNeg) (xs ((x4 + (2 : Int32))).toNatClampNeg) (xs ((x4 + (3 : Int32))).toNatClampNeg) x3 h) fun v65 h66 => gd (ixo (x4 + (1 : Int32)) L) <| gd (ixo (x4 + (2 : Int32)) L) <| gd (ixo (x4 + (3 : Int32)) L) <| gd (kC h66 x2 = 4) <| bdN (f_X4_define x2 (xs ((x4 + (1 : Int32))).toNatClampNeg) (xs ((x4 + (2 : Int32))).toNatClampNeg) (xs ((x4 + (3 : Int32))).toNatClampNeg) h66) fun v70 h71 => gd (kC h71 x2 = 4) <| bdN (f_X4_thrown x2 h71) fun v73 h74 => if v73 = v65 then
  (if v65 = 0 then
  (gd (kC h74 x3 = 102 ∧ ixo (0 : Int32) (kN h74 x3)) <| if (jL h74 x3 ((0 : Int32)).toNatClampNeg) = (v70.toInt64) then
  (f_L_law_613 L xs k23 x0 x1 x2 x3 x4 h74)
  else
  (some (.inl (0 : Int32), h74)))
  else
  (f_L_law_613 L xs k23 x0 x1 x2 x3 x4 h74))
  else
  (some (.inl (0 : Int32), h74))
def f_L_law_709 (L : Nat) (xs : Nat → Int32) (k23 : Unit → Nat → Nat → Nat → Int32 → Hp → Rt Int32) (x0 : Unit) (x1 : Nat) (x2 : Nat) (x3 : Nat) (x4 : Int32) (h : Hp) : Rt Int32 :=
  f_L_law_3277 L xs k23 x0 x1 x2 x3 x4 h
def f_L_law_676 (L : Nat) (xs : Nat → Int32) (k23 : Unit → Nat → Nat → Nat → Int32 → Hp → Rt Int32) (x0 : Unit) (x1 : Nat) (x2 : Nat) (x3 : Nat) (x4 : Int32) (x5 : Int32) (y0 : Nat) (y1 : Int32) (y2 : Int32) (y3 : Int32) (h : Hp) : Rt Int32 :=
  gd (kC h y0 = 4) <| bdN (f_X4_subclass y0 y1 y2 y3 h) fun v77 h78 => gd (kC h78 x2 = 4) <| bdN (f_X4_thrown x2 h78) fun v80 h81 => if v80 = x5 then
  (if x5 = 0 then
  (gd (kC h81 x3 = 102 ∧ ixo (0 : Int32) (kN h81 x3)) <| if (jL h81 x3 ((0 : Int32)).toNatClampNeg) = (v77.toInt64) then
  (f_L_law_709 L xs k23 x0 x1 x2 x3 x4 h81)
  else
  (some (.inl (0 : Int32), h81)))
  else
  (f_L_law_709 L xs k23 x0 x1 x2 x3 x4 h81))
  else
  (some (.inl (0 : Int32), h81))
def f_L_law_643 (L : Nat) (xs : Nat → Int32) (k23 : Unit → Nat → Nat → Nat → Int32 → Hp → Rt Int32) (x0 : Unit) (x1 : Nat) (x2 : Nat) (x3 : Nat) (x4 : Int32) (y0 : Nat) (y1 : Int32) (y2 : Int32) (y3 : Int32) (h : Hp) : Rt Int32 :=
  bdN (f_X0_subclass y0 y1 y2 y3 x3 h) fun v84 h85 => gd (ixo (x4 + (1 : Int32)) L) <| gd (ixo (x4 + (2 : Int32)) L) <| gd (ixo (x4 + (3 : Int32)) L) <| if (xs ((x4 + (3 : Int32))).toNatClampNeg) = 0 then
  (f_L_law_676 L xs k23 x0 x1 x2 x3 x4 v84 x2 (xs ((x4 + (1 : Int32))).toNatClampNeg) (xs ((x4 + (2 : Int32))).toNatClampNeg) (0 : Int32) h85)
  else
  (f_L_law_676 L xs k23 x0 x1 x2 x3 x4 v84 x2 (xs ((x4 + (1 : Int32))).toNatClampNeg) (xs ((x4 + (2 : Int32))).toNatClampNeg) (1 : Int32) h85)
def f_L_law_616 (L : Nat) (xs : Nat → Int32) (k23 : Unit → Nat → Nat → Nat → Int32 → Hp → Rt Int32) (x0 : Unit) (x1 : Nat) (x2 : Nat) (x3 : Nat) (x4 : Int32) (h : Hp) : Rt Int32 :=
  gd (ixo (x4 + (1 : Int32)) L) <| gd (ixo (x4 + (2 : Int32)) L) <| gd (ixo (x4 + (3 : Int32)) L) <| if (xs ((x4 + (3 : Int32))).toNatClampNeg) = 0 then
  (f_L_law_643 L xs k23 x0 x1 x2 x3 x4 x1 (xs ((x4 + (1 : Int32))).toNatClampNeg) (xs ((x4 + (2 : Int32))).toNatClampNeg) (0 : Int32) h)
  else
  (f_L_law_643 L xs k23 x0 x1 x2 x3 x4 x1 (xs ((x4 + (1 : Int32))).toNatClampNeg) (xs ((x4 + (2 : Int32))).toNatClampNeg) (1 : Int32) h)
def f_L_law_777 (L : Nat) (xs : Nat → Int32) (k23 : Unit → Nat → Nat → Nat → Int32 → Hp → Rt Int32) (x0 : Unit) (x1 : Nat) (x2 : Nat) (x3 : Nat) (x4 : Int32) (h : Hp) : Rt Int32 :=
  f_L_law_3277 L xs k23 x0 x1 x2 x3 x4 h
def f_L_law_712 (L : Nat) (xs : Nat → Int32) (k23 : Unit → Nat → Nat → Nat → Int32 → Hp → Rt Int32) (x0 : Unit) (x1 : Nat) (x2 : Nat) (x3 : Nat) (x4 : Int32) (h : Hp) : Rt Int32 :=
  gd (ixo (x4 + (1 : Int32)) L) <| gd (ixo (x4 + (2 : Int32)) L) <| bdN (f_X0_personAt x1 (xs ((x4 + (1 : Int32))).toNatClampNeg) (xs ((x4 + (2 : Int32))).toNatClampNeg) x3 h) fun v94 h95 => gd (ixo (x4 + (1 : Int32)) L) <| gd (ixo (x4 + (2 : Int32)) L) <| gd (kC h95 x2 = 4) <| bdN (f_X4_personAt x2 (xs ((x4 + (1 : Int32))).toNatClampNeg) (xs ((x4 + (2 : Int32))).toNatClampNeg) h95) fun v98 h99 => gd (kC h99 x2 = 4) <| bdN (f_X4_thrown x2 h99) fun v101 h102 => if v101 = v94 then
  (if v94 = 0 then
  (gd (kC h102 x3 = 102 ∧ ixo (0 : Int32) (kN h102 x3)) <| if (jL h102 x3 ((0 : Int32)).toNatClampNeg) = (v98.toInt64) then
  (f_L_law_777 L xs k23 x0 x1 x2 x3 x4 h102)
  else
  (some (.inl (0 : Int32), h102)))
  else
  (f_L_law_777 L xs k23 x0 x1 x2 x3 x4 h102))
  else
  (some (.inl (0 : Int32), h102))
def f_L_law_844 (L : Nat) (xs : Nat → Int32) (k23 : Unit → Nat → Nat → Nat → Int32 → Hp → Rt Int32) (x0 : Unit) (x1 : Nat) (x2 : Nat) (x3 : Nat) (x4 : Int32) (h : Hp) : Rt Int32 :=
  f_L_law_3277 L xs k23 x0 x1 x2 x3 x4 h
def f_L_law_780 (L : Nat) (xs : Nat → Int32) (k23 : Unit → Nat → Nat → Nat → Int32 → Hp → Rt Int32) (x0 : Unit) (x1 : Nat) (x2 : Nat) (x3 : Nat) (x4 : Int32) (h : Hp) : Rt Int32 :=
  gd (ixo (x4 + (1 : Int32)) L) <| gd (ixo (x4 + (2 : Int32)) L) <| bdN (f_X0_moneyOf x1 (xs ((x4 + (1 : Int32))).toNatClampNeg) (xs ((x4 + (2 : Int32))).toNatClampNeg) x3 h) fun v107 h108 => gd (ixo (x4 + (1 : Int32)) L) <| gd (ixo (x4 + (2 : Int32)) L) <| gd (kC h108 x2 = 4) <| bdN (f_X4_moneyOf x2 (xs ((x4 + (1 : Int32))).toNatClampNeg) (xs ((x4 + (2 : Int32))).toNatClampNeg) h108) fun v111 h112 => gd (kC h112 x2 = 4) <| bdN (f_X4_thrown x2 h112) fun v114 h115 => if v114 = v107 then
  (if v107 = 0 then
  (gd (kC h115 x3 = 102 ∧ ixo (0 : Int32) (kN h115 x3)) <| if (jL h115 x3 ((0 : Int32)).toNatClampNeg) = v111 then
  (f_L_law_844 L xs k23 x0 x1 x2 x3 x4 h115)
  else
  (some (.inl (0 : Int32), h115)))
  else
  (f_L_law_844 L xs k23 x0 x1 x2 x3 x4 h115))
  else
  (some (.inl (0 : Int32), h115))
def f_L_law_911 (L : Nat) (xs : Nat → Int32) (k23 : Unit → Nat → Nat → Nat → Int32 → Hp → Rt Int32) (x0 : Unit) (x1 : Nat) (x2 : Nat) (x3 : Nat) (x4 : Int32) (h : Hp) : Rt Int32 :=
  f_L_law_3277 L xs k23 x0 x1 x2 x3 x4 h
def f_L_law_847 (L : Nat) (xs : Nat → Int32) (k23 : Unit → Nat → Nat → Nat → Int32 → Hp → Rt Int32) (x0 : Unit) (x1 : Nat) (x2 : Nat) (x3 : Nat) (x4 : Int32) (h : Hp) : Rt Int32 :=
  gd (ixo (x4 + (1 : Int32)) L) <| gd (ixo (x4 + (2 : Int32)) L) <| bdN (f_X0_heirAt x1 (xs ((x4 + (1 : Int32))).toNatClampNeg) (xs ((x4 + (2 : Int32))).toNatClampNeg) x3 h) fun v120 h121 => gd (ixo (x4 + (1 : Int32)) L) <| gd (ixo (x4 + (2 : Int32)) L) <| gd (kC h121 x2 = 4) <| bdN (f_X4_heirAt x2 (xs ((x4 + (1 : Int32))).toNatClampNeg) (xs ((x4 + (2 : Int32))).toNatClampNeg) h121) fun v124 h125 => gd (kC h125 x2 = 4) <| bdN (f_X4_thrown x2 h125) fun v127 h128 => if v127 = v120 then
  (if v120 = 0 then
  (gd (kC h128 x3 = 102 ∧ ixo (0 : Int32) (kN h128 x3)) <| if (jL h128 x3 ((0 : Int32)).toNatClampNeg) = v124 then
  (f_L_law_911 L xs k23 x0 x1 x2 x3 x4 h128)
  else
  (some (.inl (0 : Int32), h128)))
  else
  (f_L_law_911 L xs k23 x0 x1 x2 x3 x4 h128))
  else
  (some (.inl (0 : Int32), h128))
def f_L_law_979 (L : Nat) (xs : Nat → Int32) (k23 : Unit → Nat → Nat → Nat → Int32 → Hp → Rt Int32) (x0 : Unit) (x1 : Nat) (x2 : Nat) (x3 : Nat) (x4 : Int32) (h : Hp) : Rt Int32 :=
  f_L_law_3277 L xs k23 x0 x1 x2 x3 x4 h
def f_L_law_914 (L : Nat) (xs : Nat → Int32) (k23 : Unit → Nat → Nat → Nat → Int32 → Hp → Rt Int32) (x0 : Unit) (x1 : Nat) (x2 : Nat) (x3 : Nat) (x4 : Int32) (h : Hp) : Rt Int32 :=
  gd (ixo (x4 + (1 : Int32)) L) <| gd (ixo (x4 + (2 : Int32)) L) <| bdN (f_X0_notice x1 (xs ((x4 + (1 : Int32))).toNatClampNeg) (xs ((x4 + (2 : Int32))).toNatClampNeg) x3 h) fun v133 h134 => gd (ixo (x4 + (1 : Int32)) L) <| gd (ixo (x4 + (2 : Int32)) L) <| gd (kC h134 x2 = 4) <| bdN (f_X4_notice x2 (xs ((x4 + (1 : Int32))).toNatClampNeg) (xs ((x4 + (2 : Int32))).toNatClampNeg) h134) fun v137 h138 => gd (kC h138 x2 = 4) <| bdN (f_X4_thrown x2 h138) fun v140 h141 => if v140 = v133 then
  (if v133 = 0 then
  (gd (kC h141 x3 = 102 ∧ ixo (0 : Int32) (kN h141 x3)) <| if (jL h141 x3 ((0 : Int32)).toNatClampNeg) = (v137.toInt64) then
  (f_L_law_979 L xs k23 x0 x1 x2 x3 x4 h141)
  else
  (some (.inl (0 : Int32), h141)))
  else
  (f_L_law_979 L xs k23 x0 x1 x2 x3 x4 h141))
  else
  (some (.inl (0 : Int32), h141))
def f_L_law_1070 (L : Nat) (xs : Nat → Int32) (k23 : Unit → Nat → Nat → Nat → Int32 → Hp → Rt Int32) (x0 : Unit) (x1 : Nat) (x2 : Nat) (x3 : Nat) (x4 : Int32) (h : Hp) : Rt Int32 :=
  f_L_law_3277 L xs k23 x0 x1 x2 x3 x4 h
def f_L_law_1064 (L : Nat) (xs : Nat → Int32) (k23 : Unit → Nat → Nat → Nat → Int32 → Hp → Rt Int32) (x0 : Unit) (x1 : Nat) (x2 : Nat) (x3 : Nat) (x4 : Int32) (y0 : Int64) (y1 : Int64) (h : Hp) : Rt Int32 :=
  if y0 = y1 then
  (f_L_law_1070 L xs k23 x0 x1 x2 x3 x4 h)
  else
  (some (.inl (0 : Int32), h))
def f_L_law_1030 (L : Nat) (xs : Nat → Int32) (k23 : Unit → Nat → Nat → Nat → Int32 → Hp → Rt Int32) (x0 : Unit) (x1 : Nat) (x2 : Nat) (x3 : Nat) (x4 : Int32) (x5 : Int32) (y0 : Nat) (y1 : Int32) (y2 : Int32) (h : Hp) : Rt Int32 :=
  gd (kC h y0 = 4) <| bdN (f_X4_address y0 y1 y2 h) fun v144 h145 => gd (kC h145 x2 = 4) <| bdN (f_X4_thrown x2 h145) fun v147 h148 => if v147 = x5 then
  (if x5 = 0 then
  (gd (kC h148 x3 = 102 ∧ ixo (0 : Int32) (kN h148 x3)) <| if v144 = 0 then
  (f_L_law_1064 L xs k23 x0 x1 x2 x3 x4 (jL h148 x3 ((0 : Int32)).toNatClampNeg) (0 : Int64) h148)
  else
  (f_L_law_1064 L xs k23 x0 x1 x2 x3 x4 (jL h148 x3 ((0 : Int32)).toNatClampNeg) (1 : Int64) h148))
  else
  (f_L_law_1070 L xs k23 x0 x1 x2 x3 x4 h148))
  else
  (some (.inl (0 : Int32), h148))
def f_L_law_1003 (L : Nat) (xs : Nat → Int32) (k23 : Unit → Nat → Nat → Nat → Int32 → Hp → Rt Int32) (x0 : Unit) (x1 : Nat) (x2 : Nat) (x3 : Nat) (x4 : Int32) (y0 : Nat) (y1 : Int32) (y2 : Int32) (h : Hp) : Rt Int32 :=
  bdN (f_X0_address y0 y1 y2 x3 h) fun v151 h152 => gd (ixo (x4 + (1 : Int32)) L) <| gd (ixo (x4 + (2 : Int32)) L) <| if (xs ((x4 + (2 : Int32))).toNatClampNeg) = 0 then
  (f_L_law_1030 L xs k23 x0 x1 x2 x3 x4 v151 x2 (xs ((x4 + (1 : Int32))).toNatClampNeg) (0 : Int32) h152)
  else
  (f_L_law_1030 L xs k23 x0 x1 x2 x3 x4 v151 x2 (xs ((x4 + (1 : Int32))).toNatClampNeg) (1 : Int32) h152)
def f_L_law_982 (L : Nat) (xs : Nat → Int32) (k23 : Unit → Nat → Nat → Nat → Int32 → Hp → Rt Int32) (x0 : Unit) (x1 : Nat) (x2 : Nat) (x3 : Nat) (x4 : Int32) (h : Hp) : Rt Int32 :=
  gd (ixo (x4 + (1 : Int32)) L) <| gd (ixo (x4 + (2 : Int32)) L) <| if (xs ((x4 + (2 : Int32))).toNatClampNeg) = 0 then
  (f_L_law_1003 L xs k23 x0 x1 x2 x3 x4 x1 (xs ((x4 + (1 : Int32))).toNatClampNeg) (0 : Int32) h)
  else
  (f_L_law_1003 L xs k23 x0 x1 x2 x3 x4 x1 (xs ((x4 + (1 : Int32))).toNatClampNeg) (1 : Int32) h)
def f_L_law_1161 (L : Nat) (xs : Nat → Int32) (k23 : Unit → Nat → Nat → Nat → Int32 → Hp → Rt Int32) (x0 : Unit) (x1 : Nat) (x2 : Nat) (x3 : Nat) (x4 : Int32) (h : Hp) : Rt Int32 :=
  f_L_law_3277 L xs k23 x0 x1 x2 x3 x4 h
def f_L_law_1155 (L : Nat) (xs : Nat → Int32) (k23 : Unit → Nat → Nat → Nat → Int32 → Hp → Rt Int32) (x0 : Unit) (x1 : Nat) (x2 : Nat) (x3 : Nat) (x4 : Int32) (y0 : Int64) (y1 : Int64) (h : Hp) : Rt Int32 :=
  if y0 = y1 then
  (f_L_law_1161 L xs k23 x0 x1 x2 x3 x4 h)
  else
  (some (.inl (0 : Int32), h))
def f_L_law_1121 (L : Nat) (xs : Nat → Int32) (k23 : Unit → Nat → Nat → Nat → Int32 → Hp → Rt Int32) (x0 : Unit) (x1 : Nat) (x2 : Nat) (x3 : Nat) (x4 : Int32) (x5 : Int32) (y0 : Nat) (y1 : Int32) (y2 : Int32) (h : Hp) : Rt Int32 :=
  gd (kC h y0 = 4) <| bdN (f_X4_optOut y0 y1 y2 h) fun v157 h158 => gd (kC h158 x2 = 4) <| bdN (f_X4_thrown x2 h158) fun v160 h161 => if v160 = x5 then
  (if x5 = 0 then
  (gd (kC h161 x3 = 102 ∧ ixo (0 : Int32) (kN h161 x3)) <| if v157 = 0 then
  (f_L_law_1155 L xs k23 x0 x1 x2 x3 x4 (jL h161 x3 ((0 : Int32)).toNatClampNeg) (0 : Int64) h161)
  else
  (f_L_law_1155 L xs k23 x0 x1 x2 x3 x4 (jL h161 x3 ((0 : Int32)).toNatClampNeg) (1 : Int64) h161))
  else
  (f_L_law_1161 L xs k23 x0 x1 x2 x3 x4 h161))
  else
  (some (.inl (0 : Int32), h161))
def f_L_law_1094 (L : Nat) (xs : Nat → Int32) (k23 : Unit → Nat → Nat → Nat → Int32 → Hp → Rt Int32) (x0 : Unit) (x1 : Nat) (x2 : Nat) (x3 : Nat) (x4 : Int32) (y0 : Nat) (y1 : Int32) (y2 : Int32) (h : Hp) : Rt Int32 :=
  bdN (f_X0_optOut y0 y1 y2 x3 h) fun v164 h165 => gd (ixo (x4 + (1 : Int32)) L) <| gd (ixo (x4 + (2 : Int32)) L) <| if (xs ((x4 + (2 : Int32))).toNatClampNeg) = 0 then
  (f_L_law_1121 L xs k23 x0 x1 x2 x3 x4 v164 x2 (xs ((x4 + (1 : Int32))).toNatClampNeg) (0 : Int32) h165)
  else
  (f_L_law_1121 L xs k23 x0 x1 x2 x3 x4 v164 x2 (xs ((x4 + (1 : Int32))).toNatClampNeg) (1 : Int32) h165)
def f_L_law_1073 (L : Nat) (xs : Nat → Int32) (k23 : Unit → Nat → Nat → Nat → Int32 → Hp → Rt Int32) (x0 : Unit) (x1 : Nat) (x2 : Nat) (x3 : Nat) (x4 : Int32) (h : Hp) : Rt Int32 :=
  gd (ixo (x4 + (1 : Int32)) L) <| gd (ixo (x4 + (2 : Int32)) L) <| if (xs ((x4 + (2 : Int32))).toNatClampNeg) = 0 then
  (f_L_law_1094 L xs k23 x0 x1 x2 x3 x4 x1 (xs ((x4 + (1 : Int32))).toNatClampNeg) (0 : Int32) h)
  else
  (f_L_law_1094 L xs k23 x0 x1 x2 x3 x4 x1 (xs ((x4 + (1 : Int32))).toNatClampNeg) (1 : Int32) h)
def f_L_law_1224 (L : Nat) (xs : Nat → Int32) (k23 : Unit → Nat → Nat → Nat → Int32 → Hp → Rt Int32) (x0 : Unit) (x1 : Nat) (x2 : Nat) (x3 : Nat) (x4 : Int32) (h : Hp) : Rt Int32 :=
  f_L_law_3277 L xs k23 x0 x1 x2 x3 x4 h
def f_L_law_1218 (L : Nat) (xs : Nat → Int32) (k23 : Unit → Nat → Nat → Nat → Int32 → Hp → Rt Int32) (x0 : Unit) (x1 : Nat) (x2 : Nat) (x3 : Nat) (x4 : Int32) (y0 : Int64) (y1 : Int64) (h : Hp) : Rt Int32 :=
  if y0 = y1 then
  (f_L_law_1224 L xs k23 x0 x1 x2 x3 x4 h)
  else
  (some (.inl (0 : Int32), h))
def f_L_law_1164 (L : Nat) (xs : Nat → Int32) (k23 : Unit → Nat → Nat → Nat → Int32 → Hp → Rt Int32) (x0 : Unit) (x1 : Nat) (x2 : Nat) (x3 : Nat) (x4 : Int32) (h : Hp) : Rt Int32 :=
  gd (ixo (x4 + (1 : Int32)) L) <| bdN (f_X0_optIn x1 (xs ((x4 + (1 : Int32))).toNatClampNeg) x3 h) fun v171 h172 => gd (ixo (x4 + (1 : Int32)) L) <| gd (kC h172 x2 = 4) <| bdN (f_X4_optIn x2 (xs ((x4 + (1 : Int32))).toNatClampNeg) h172) fun v174 h175 => gd (kC h175 x2 = 4) <| bdN (f_X4_thrown x2 h175) fun v177 h178 => if v177 = v171 then
  (if v171 = 0 then
  (gd (kC h178 x3 = 102 ∧ ixo (0 : Int32) (kN h178 x3)) <| if v174 = 0 then
  (f_L_law_1218 L xs k23 x0 x1 x2 x3 x4 (jL h178 x3 ((0 : Int32)).toNatClampNeg) (0 : Int64) h178)
  else
  (f_L_law_1218 L xs k23 x0 x1 x2 x3 x4 (jL h178 x3 ((0 : Int32)).toNatClampNeg) (1 : Int64) h178))
  else
  (f_L_law_1224 L xs k23 x0 x1 x2 x3 x4 h178))
  else
  (some (.inl (0 : Int32), h178))
def f_L_law_1280 (L : Nat) (xs : Nat → Int32) (k23 : Unit → Nat → Nat → Nat → Int32 → Hp → Rt Int32) (x0 : Unit) (x1 : Nat) (x2 : Nat) (x3 : Nat) (x4 : Int32) (h : Hp) : Rt Int32 :=
  f_L_law_3277 L xs k23 x0 x1 x2 x3 x4 h
def f_L_law_1227 (L : Nat) (xs : Nat → Int32) (k23 : Unit → Nat → Nat → Nat → Int32 → Hp → Rt Int32) (x0 : Unit) (x1 : Nat) (x2 : Nat) (x3 : Nat) (x4 : Int32) (h : Hp) : Rt Int32 :=
  gd (ixo (x4 + (1 : Int32)) L) <| bdN (f_X0_draw x1 (xs ((x4 + (1 : Int32))).toNatClampNeg) x3 h) fun v182 h183 => gd (ixo (x4 + (1 : Int32)) L) <| gd (kC h183 x2 = 4) <| bdN (f_X4_draw x2 (xs ((x4 + (1 : Int32))).toNatClampNeg) h183) fun v185 h186 => gd (kC h186 x2 = 4) <| bdN (f_X4_thrown x2 h186) fun v188 h189 => if v188 = v182 then
  (if v182 = 0 then
  (gd (kC h189 x3 = 102 ∧ ixo (0 : Int32) (kN h189 x3)) <| if (jL h189 x3 ((0 : Int32)).toNatClampNeg) = (v185.toInt64) then
  (f_L_law_1280 L xs k23 x0 x1 x2 x3 x4 h189)
  else
  (some (.inl (0 : Int32), h189)))
  else
  (f_L_law_1280 L xs k23 x0 x1 x2 x3 x4 h189))
  else
  (some (.inl (0 : Int32), h189))
def f_L_law_1348 (L : Nat) (xs : Nat → Int32) (k23 : Unit → Nat → Nat → Nat → Int32 → Hp → Rt Int32) (x0 : Unit) (x1 : Nat) (x2 : Nat) (x3 : Nat) (x4 : Int32) (h : Hp) : Rt Int32 :=
  f_L_law_3277 L xs k23 x0 x1 x2 x3 x4 h
def f_L_law_1283 (L : Nat) (xs : Nat → Int32) (k23 : Unit → Nat → Nat → Nat → Int32 → Hp → Rt Int32) (x0 : Unit) (x1 : Nat) (x2 : Nat) (x3 : Nat) (x4 : Int32) (h : Hp) : Rt Int32 :=
  gd (ixo (x4 + (1 : Int32)) L) <| gd (ixo (x4 + (2 : Int32)) L) <| bdN (f_X0_verdict x1 (xs ((x4 + (1 : Int32))).toNatClampNeg) (xs ((x4 + (2 : Int32))).toNatClampNeg) x3 h) fun v194 h195 => gd (ixo (x4 + (1 : Int32)) L) <| gd (ixo (x4 + (2 : Int32)) L) <| gd (kC h195 x2 = 4) <| bdN (f_X4_verdict x2 (xs ((x4 + (1 : Int32))).toNatClampNeg) (xs ((x4 + (2 : Int32))).toNatClampNeg) h195) fun v198 h199 => gd (kC h199 x2 = 4) <| bdN (f_X4_thrown x2 h199) fun v201 h202 => if v201 = v194 then
  (if v194 = 0 then
  (gd (kC h202 x3 = 102 ∧ ixo (0 : Int32) (kN h202 x3)) <| if (jL h202 x3 ((0 : Int32)).toNatClampNeg) = (v198.toInt64) then
  (f_L_law_1348 L xs k23 x0 x1 x2 x3 x4 h202)
  else
  (some (.inl (0 : Int32), h202)))
  else
  (f_L_law_1348 L xs k23 x0 x1 x2 x3 x4 h202))
  else
  (some (.inl (0 : Int32), h202))
def f_L_law_1404 (L : Nat) (xs : Nat → Int32) (k23 : Unit → Nat → Nat → Nat → Int32 → Hp → Rt Int32) (x0 : Unit) (x1 : Nat) (x2 : Nat) (x3 : Nat) (x4 : Int32) (h : Hp) : Rt Int32 :=
  f_L_law_3277 L xs k23 x0 x1 x2 x3 x4 h
def f_L_law_1351 (L : Nat) (xs : Nat → Int32) (k23 : Unit → Nat → Nat → Nat → Int32 → Hp → Rt Int32) (x0 : Unit) (x1 : Nat) (x2 : Nat) (x3 : Nat) (x4 : Int32) (h : Hp) : Rt Int32 :=
  gd (ixo (x4 + (1 : Int32)) L) <| bdN (f_X0_offer x1 (xs ((x4 + (1 : Int32))).toNatClampNeg) x3 h) fun v206 h207 => gd (ixo (x4 + (1 : Int32)) L) <| gd (kC h207 x2 = 4) <| bdN (f_X4_offer x2 (xs ((x4 + (1 : Int32))).toNatClampNeg) h207) fun v209 h210 => gd (kC h210 x2 = 4) <| bdN (f_X4_thrown x2 h210) fun v212 h213 => if v212 = v206 then
  (if v206 = 0 then
  (gd (kC h213 x3 = 102 ∧ ixo (0 : Int32) (kN h213 x3)) <| if (jL h213 x3 ((0 : Int32)).toNatClampNeg) = (v209.toInt64) then
  (f_L_law_1404 L xs k23 x0 x1 x2 x3 x4 h213)
  else
  (some (.inl (0 : Int32), h213)))
  else
  (f_L_law_1404 L xs k23 x0 x1 x2 x3 x4 h213))
  else
  (some (.inl (0 : Int32), h213))
def f_L_law_1472 (L : Nat) (xs : Nat → Int32) (k23 : Unit → Nat → Nat → Nat → Int32 → Hp → Rt Int32) (x0 : Unit) (x1 : Nat) (x2 : Nat) (x3 : Nat) (x4 : Int32) (h : Hp) : Rt Int32 :=
  f_L_law_3277 L xs k23 x0 x1 x2 x3 x4 h
def f_L_law_1407 (L : Nat) (xs : Nat → Int32) (k23 : Unit → Nat → Nat → Nat → Int32 → Hp → Rt Int32) (x0 : Unit) (x1 : Nat) (x2 : Nat) (x3 : Nat) (x4 : Int32) (h : Hp) : Rt Int32 :=
  gd (ixo (x4 + (1 : Int32)) L) <| gd (ixo (x4 + (2 : Int32)) L) <| bdN (f_X0_defendant x1 (xs ((x4 + (1 : Int32))).toNatClampNeg) (xs ((x4 + (2 : Int32))).toNatClampNeg) x3 h) fun v218 h219 => gd (ixo (x4 + (1 : Int32)) L) <| gd (ixo (x4 + (2 : Int32)) L) <| gd (kC h219 x2 = 4) <| bdN (f_X4_defendant x2 (xs ((x4 + (1 : Int32))).toNatClampNeg) (xs ((x4 + (2 : Int32))).toNatClampNeg) h219) fun v222 h223 => gd (kC h223 x2 = 4) <| bdN (f_X4_thrown x2 h223) fun v225 h226 => if v225 = v218 then
  (if v218 = 0 then
  (gd (kC h226 x3 = 102 ∧ ixo (0 : Int32) (kN h226 x3)) <| if (jL h226 x3 ((0 : Int32)).toNatClampNeg) = (v222.toInt64) then
  (f_L_law_1472 L xs k23 x0 x1 x2 x3 x4 h226)
  else
  (some (.inl (0 : Int32), h226)))
  else
  (f_L_law_1472 L xs k23 x0 x1 x2 x3 x4 h226))
  else
  (some (.inl (0 : Int32), h226))
def f_L_law_1539 (L : Nat) (xs : Nat → Int32) (k23 : Unit → Nat → Nat → Nat → Int32 → Hp → Rt Int32) (x0 : Unit) (x1 : Nat) (x2 : Nat) (x3 : Nat) (x4 : Int32) (h : Hp) : Rt Int32 :=
  f_L_law_3277 L xs k23 x0 x1 x2 x3 x4 h
def f_L_law_1475 (L : Nat) (xs : Nat → Int32) (k23 : Unit → Nat → Nat → Nat → Int32 → Hp → Rt Int32) (x0 : Unit) (x1 : Nat) (x2 : Nat) (x3 : Nat) (x4 : Int32) (h : Hp) : Rt Int32 :=
  gd (ixo (x4 + (1 : Int32)) L) <| gd (ixo (x4 + (2 : Int32)) L) <| bdN (f_X0_payIn x1 (xs ((x4 + (1 : Int32))).toNatClampNeg) (xs ((x4 + (2 : Int32))).toNatClampNeg) x3 h) fun v231 h232 => gd (ixo (x4 + (1 : Int32)) L) <| gd (ixo (x4 + (2 : Int32)) L) <| gd (kC h232 x2 = 4) <| bdN (f_X4_payIn x2 (xs ((x4 + (1 : Int32))).toNatClampNeg) (xs ((x4 + (2 : Int32))).toNatClampNeg) h232) fun v235 h236 => gd (kC h236 x2 = 4) <| bdN (f_X4_thrown x2 h236) fun v238 h239 => if v238 = v231 then
  (if v231 = 0 then
  (gd (kC h239 x3 = 102 ∧ ixo (0 : Int32) (kN h239 x3)) <| if (jL h239 x3 ((0 : Int32)).toNatClampNeg) = v235 then
  (f_L_law_1539 L xs k23 x0 x1 x2 x3 x4 h239)
  else
  (some (.inl (0 : Int32), h239)))
  else
  (f_L_law_1539 L xs k23 x0 x1 x2 x3 x4 h239))
  else
  (some (.inl (0 : Int32), h239))
def f_L_law_1594 (L : Nat) (xs : Nat → Int32) (k23 : Unit → Nat → Nat → Nat → Int32 → Hp → Rt Int32) (x0 : Unit) (x1 : Nat) (x2 : Nat) (x3 : Nat) (x4 : Int32) (h : Hp) : Rt Int32 :=
  f_L_law_3277 L xs k23 x0 x1 x2 x3 x4 h
def f_L_law_1542 (L : Nat) (xs : Nat → Int32) (k23 : Unit → Nat → Nat → Nat → Int32 → Hp → Rt Int32) (x0 : Unit) (x1 : Nat) (x2 : Nat) (x3 : Nat) (x4 : Int32) (h : Hp) : Rt Int32 :=
  gd (ixo (x4 + (1 : Int32)) L) <| bdN (f_X0_fail x1 (xs ((x4 + (1 : Int32))).toNatClampNeg) x3 h) fun v243 h244 => gd (ixo (x4 + (1 : Int32)) L) <| gd (kC h244 x2 = 4) <| bdN (f_X4_fail x2 (xs ((x4 + (1 : Int32))).toNatClampNeg) h244) fun v246 h247 => gd (kC h247 x2 = 4) <| bdN (f_X4_thrown x2 h247) fun v249 h250 => if v249 = v243 then
  (if v243 = 0 then
  (gd (kC h250 x3 = 102 ∧ ixo (0 : Int32) (kN h250 x3)) <| if (jL h250 x3 ((0 : Int32)).toNatClampNeg) = v246 then
  (f_L_law_1594 L xs k23 x0 x1 x2 x3 x4 h250)
  else
  (some (.inl (0 : Int32), h250)))
  else
  (f_L_law_1594 L xs k23 x0 x1 x2 x3 x4 h250))
  else
  (some (.inl (0 : Int32), h250))
def f_L_law_1661 (L : Nat) (xs : Nat → Int32) (k23 : Unit → Nat → Nat → Nat → Int32 → Hp → Rt Int32) (x0 : Unit) (x1 : Nat) (x2 : Nat) (x3 : Nat) (x4 : Int32) (h : Hp) : Rt Int32 :=
  f_L_law_3277 L xs k23 x0 x1 x2 x3 x4 h
def f_L_law_1597 (L : Nat) (xs : Nat → Int32) (k23 : Unit → Nat → Nat → Nat → Int32 → Hp → Rt Int32) (x0 : Unit) (x1 : Nat) (x2 : Nat) (x3 : Nat) (x4 : Int32) (h : Hp) : Rt Int32 :=
  gd (ixo (x4 + (1 : Int32)) L) <| gd (ixo (x4 + (2 : Int32)) L) <| bdN (f_X0_defendantAt x1 (xs ((x4 + (1 : Int32))).toNatClampNeg) (xs ((x4 + (2 : Int32))).toNatClampNeg) x3 h) fun v255 h256 => gd (ixo (x4 + (1 : Int32)) L) <| gd (ixo (x4 + (2 : Int32)) L) <| gd (kC h256 x2 = 4) <| bdN (f_X4_defendantAt x2 (xs ((x4 + (1 : Int32))).toNatClampNeg) (xs ((x4 + (2 : Int32))).toNatClampNeg) h256) fun v259 h260 => gd (kC h260 x2 = 4) <| bdN (f_X4_thrown x2 h260) fun v262 h263 => if v262 = v255 then
  (if v255 = 0 then
  (gd (kC h263 x3 = 102 ∧ ixo (0 : Int32) (kN h263 x3)) <| if (jL h263 x3 ((0 : Int32)).toNatClampNeg) = v259 then
  (f_L_law_1661 L xs k23 x0 x1 x2 x3 x4 h263)
  else
  (some (.inl (0 : Int32), h263)))
  else
  (f_L_law_1661 L xs k23 x0 x1 x2 x3 x4 h263))
  else
  (some (.inl (0 : Int32), h263))
def f_L_law_1741 (L : Nat) (xs : Nat → Int32) (k23 : Unit → Nat → Nat → Nat → Int32 → Hp → Rt Int32) (x0 : Unit) (x1 : Nat) (x2 : Nat) (x3 : Nat) (x4 : Int32) (h : Hp) : Rt Int32 :=
  f_L_law_3277 L xs k23 x0 x1 x2 x3 x4 h
def f_L_law_1664 (L : Nat) (xs : Nat → Int32) (k23 : Unit → Nat → Nat → Nat → Int32 → Hp → Rt Int32) (x0 : Unit) (x1 : Nat) (x2 : Nat) (x3 : Nat) (x4 : Int32) (h : Hp) : Rt Int32 :=
  gd (ixo (x4 + (1 : Int32)) L) <| gd (ixo (x4 + (2 : Int32)) L) <| gd (ixo (x4 + (3 : Int32)) L) <| bdN (f_X0_propose x1 (xs ((x4 + (1 : Int32))).toNatClampNeg) (xs ((x4 + (2 : Int32))).toNatClampNeg) (xs ((x4 + (3 : Int32))).toNatClampNeg) x3 h) fun v269 h270 => gd (ixo (x4 + (1 : Int32)) L) <| gd (ixo (x4 + (2 : Int32)) L) <| gd (ixo (x4 + (3 : Int32)) L) <| gd (kC h270 x2 = 4) <| bdN (f_X4_propose x2 (xs ((x4 + (1 : Int32))).toNatClampNeg) (xs ((x4 + (2 : Int32))).toNatClampNeg) (xs ((x4 + (3 : Int32))).toNatClampNeg) h270) fun v274 h275 => gd (kC h275 x2 = 4) <| bdN (f_X4_thrown x2 h275) fun v277 h278 => if v277 = v269 then
  (if v269 = 0 then
  (gd (kC h278 x3 = 102 ∧ ixo (0 : Int32) (kN h278 x3)) <| if (jL h278 x3 ((0 : Int32)).toNatClampNeg) = (v274.toInt64) then
  (f_L_law_1741 L xs k23 x0 x1 x2 x3 x4 h278)
  else
  (some (.inl (0 : Int32), h278)))
  else
  (f_L_law_1741 L xs k23 x0 x1 x2 x3 x4 h278))
  else
  (some (.inl (0 : Int32), h278))
def f_L_law_1785 (L : Nat) (xs : Nat → Int32) (k23 : Unit → Nat → Nat → Nat → Int32 → Hp → Rt Int32) (x0 : Unit) (x1 : Nat) (x2 : Nat) (x3 : Nat) (x4 : Int32) (h : Hp) : Rt Int32 :=
  f_L_law_3277 L xs k23 x0 x1 x2 x3 x4 h
def f_L_law_1744 (L : Nat) (xs : Nat → Int32) (k23 : Unit → Nat → Nat → Nat → Int32 → Hp → Rt Int32) (x0 : Unit) (x1 : Nat) (x2 : Nat) (x3 : Nat) (x4 : Int32) (h : Hp) : Rt Int32 :=
  bdN (f_X0_approve x1 x3 h) fun v281 h282 => gd (kC h282 x2 = 4) <| bdN (f_X4_approve x2 h282) fun v283 h284 => gd (kC h284 x2 = 4) <| bdN (f_X4_thrown x2 h284) fun v286 h287 => if v286 = v281 then
  (if v281 = 0 then
  (gd (kC h287 x3 = 102 ∧ ixo (0 : Int32) (kN h287 x3)) <| if (jL h287 x3 ((0 : Int32)).toNatClampNeg) = (v283.toInt64) then
  (f_L_law_1785 L xs k23 x0 x1 x2 x3 x4 h287)
  else
  (some (.inl (0 : Int32), h287)))
  else
  (f_L_law_1785 L xs k23 x0 x1 x2 x3 x4 h287))
  else
  (some (.inl (0 : Int32), h287))
def f_L_law_1869 (L : Nat) (xs : Nat → Int32) (k23 : Unit → Nat → Nat → Nat → Int32 → Hp → Rt Int32) (x0 : Unit) (x1 : Nat) (x2 : Nat) (x3 : Nat) (x4 : Int32) (h : Hp) : Rt Int32 :=
  f_L_law_3277 L xs k23 x0 x1 x2 x3 x4 h
def f_L_law_1836 (L : Nat) (xs : Nat → Int32) (k23 : Unit → Nat → Nat → Nat → Int32 → Hp → Rt Int32) (x0 : Unit) (x1 : Nat) (x2 : Nat) (x3 : Nat) (x4 : Int32) (x5 : Int32) (y0 : Nat) (y1 : Int32) (y2 : Int32) (h : Hp) : Rt Int32 :=
  gd (kC h y0 = 4) <| bdN (f_X4_vote y0 y1 y2 h) fun v290 h291 => gd (kC h291 x2 = 4) <| bdN (f_X4_thrown x2 h291) fun v293 h294 => if v293 = x5 then
  (if x5 = 0 then
  (gd (kC h294 x3 = 102 ∧ ixo (0 : Int32) (kN h294 x3)) <| if (jL h294 x3 ((0 : Int32)).toNatClampNeg) = (v290.toInt64) then
  (f_L_law_1869 L xs k23 x0 x1 x2 x3 x4 h294)
  else
  (some (.inl (0 : Int32), h294)))
  else
  (f_L_law_1869 L xs k23 x0 x1 x2 x3 x4 h294))
  else
  (some (.inl (0 : Int32), h294))
def f_L_law_1809 (L : Nat) (xs : Nat → Int32) (k23 : Unit → Nat → Nat → Nat → Int32 → Hp → Rt Int32) (x0 : Unit) (x1 : Nat) (x2 : Nat) (x3 : Nat) (x4 : Int32) (y0 : Nat) (y1 : Int32) (y2 : Int32) (h : Hp) : Rt Int32 :=
  bdN (f_X0_vote y0 y1 y2 x3 h) fun v297 h298 => gd (ixo (x4 + (1 : Int32)) L) <| gd (ixo (x4 + (2 : Int32)) L) <| if (xs ((x4 + (2 : Int32))).toNatClampNeg) = 0 then
  (f_L_law_1836 L xs k23 x0 x1 x2 x3 x4 v297 x2 (xs ((x4 + (1 : Int32))).toNatClampNeg) (0 : Int32) h298)
  else
  (f_L_law_1836 L xs k23 x0 x1 x2 x3 x4 v297 x2 (xs ((x4 + (1 : Int32))).toNatClampNeg) (1 : Int32) h298)
def f_L_law_1788 (L : Nat) (xs : Nat → Int32) (k23 : Unit → Nat → Nat → Nat → Int32 → Hp → Rt Int32) (x0 : Unit) (x1 : Nat) (x2 : Nat) (x3 : Nat) (x4 : Int32) (h : Hp) : Rt Int32 :=
  gd (ixo (x4 + (1 : Int32)) L) <| gd (ixo (x4 + (2 : Int32)) L) <| if (xs ((x4 + (2 : Int32))).toNatClampNeg) = 0 then
  (f_L_law_1809 L xs k23 x0 x1 x2 x3 x4 x1 (xs ((x4 + (1 : Int32))).toNatClampNeg) (0 : Int32) h)
  else
  (f_L_law_1809 L xs k23 x0 x1 x2 x3 x4 x1 (xs ((x4 + (1 : Int32))).toNatClampNeg) (1 : Int32) h)
def f_L_law_1937 (L : Nat) (xs : Nat → Int32) (k23 : Unit → Nat → Nat → Nat → Int32 → Hp → Rt Int32) (x0 : Unit) (x1 : Nat) (x2 : Nat) (x3 : Nat) (x4 : Int32) (h : Hp) : Rt Int32 :=
  f_L_law_3277 L xs k23 x0 x1 x2 x3 x4 h
def f_L_law_1872 (L : Nat) (xs : Nat → Int32) (k23 : Unit → Nat → Nat → Nat → Int32 → Hp → Rt Int32) (x0 : Unit) (x1 : Nat) (x2 : Nat) (x3 : Nat) (x4 : Int32) (h : Hp) : Rt Int32 :=
  gd (ixo (x4 + (1 : Int32)) L) <| gd (ixo (x4 + (2 : Int32)) L) <| bdN (f_X0_object x1 (xs ((x4 + (1 : Int32))).toNatClampNeg) (xs ((x4 + (2 : Int32))).toNatClampNeg) x3 h) fun v305 h306 => gd (ixo (x4 + (1 : Int32)) L) <| gd (ixo (x4 + (2 : Int32)) L) <| gd (kC h306 x2 = 4) <| bdN (f_X4_object x2 (xs ((x4 + (1 : Int32))).toNatClampNeg) (xs ((x4 + (2 : Int32))).toNatClampNeg) h306) fun v309 h310 => gd (kC h310 x2 = 4) <| bdN (f_X4_thrown x2 h310) fun v312 h313 => if v312 = v305 then
  (if v305 = 0 then
  (gd (kC h313 x3 = 102 ∧ ixo (0 : Int32) (kN h313 x3)) <| if (jL h313 x3 ((0 : Int32)).toNatClampNeg) = (v309.toInt64) then
  (f_L_law_1937 L xs k23 x0 x1 x2 x3 x4 h313)
  else
  (some (.inl (0 : Int32), h313)))
  else
  (f_L_law_1937 L xs k23 x0 x1 x2 x3 x4 h313))
  else
  (some (.inl (0 : Int32), h313))
def f_L_law_1992 (L : Nat) (xs : Nat → Int32) (k23 : Unit → Nat → Nat → Nat → Int32 → Hp → Rt Int32) (x0 : Unit) (x1 : Nat) (x2 : Nat) (x3 : Nat) (x4 : Int32) (h : Hp) : Rt Int32 :=
  f_L_law_3277 L xs k23 x0 x1 x2 x3 x4 h
def f_L_law_1940 (L : Nat) (xs : Nat → Int32) (k23 : Unit → Nat → Nat → Nat → Int32 → Hp → Rt Int32) (x0 : Unit) (x1 : Nat) (x2 : Nat) (x3 : Nat) (x4 : Int32) (h : Hp) : Rt Int32 :=
  gd (ixo (x4 + (1 : Int32)) L) <| bdN (f_X0_raise x1 (xs ((x4 + (1 : Int32))).toNatClampNeg) x3 h) fun v317 h318 => gd (ixo (x4 + (1 : Int32)) L) <| gd (kC h318 x2 = 4) <| bdN (f_X4_raise x2 (xs ((x4 + (1 : Int32))).toNatClampNeg) h318) fun v320 h321 => gd (kC h321 x2 = 4) <| bdN (f_X4_thrown x2 h321) fun v323 h324 => if v323 = v317 then
  (if v317 = 0 then
  (gd (kC h324 x3 = 102 ∧ ixo (0 : Int32) (kN h324 x3)) <| if (jL h324 x3 ((0 : Int32)).toNatClampNeg) = v320 then
  (f_L_law_1992 L xs k23 x0 x1 x2 x3 x4 h324)
  else
  (some (.inl (0 : Int32), h324)))
  else
  (f_L_law_1992 L xs k23 x0 x1 x2 x3 x4 h324))
  else
  (some (.inl (0 : Int32), h324))
def f_L_law_2072 (L : Nat) (xs : Nat → Int32) (k23 : Unit → Nat → Nat → Nat → Int32 → Hp → Rt Int32) (x0 : Unit) (x1 : Nat) (x2 : Nat) (x3 : Nat) (x4 : Int32) (h : Hp) : Rt Int32 :=
  f_L_law_3277 L xs k23 x0 x1 x2 x3 x4 h
def f_L_law_1995 (L : Nat) (xs : Nat → Int32) (k23 : Unit → Nat → Nat → Nat → Int32 → Hp → Rt Int32) (x0 : Unit) (x1 : Nat) (x2 : Nat) (x3 : Nat) (x4 : Int32) (h : Hp) : Rt Int32 :=
  gd (ixo (x4 + (1 : Int32)) L) <| gd (ixo (x4 + (2 : Int32)) L) <| gd (ixo (x4 + (3 : Int32)) L) <| bdN (f_X0_grid x1 (xs ((x4 + (1 : Int32))).toNatClampNeg) (xs ((x4 + (2 : Int32))).toNatClampNeg) (xs ((x4 + (3 : Int32))).toNatClampNeg) x3 h) fun v330 h331 => gd (ixo (x4 + (1 : Int32)) L) <| gd (ixo (x4 + (2 : Int32)) L) <| gd (ixo (x4 + (3 : Int32)) L) <| gd (kC h331 x2 = 4) <| bdN (f_X4_grid x2 (xs ((x4 + (1 : Int32))).toNatClampNeg) (xs ((x4 + (2 : Int32))).toNatClampNeg) (xs ((x4 + (3 : Int32))).toNatClampNeg) h331) fun v335 h336 => gd (kC h336 x2 = 4) <| bdN (f_X4_thrown x2 h336) fun v338 h339 => if v338 = v330 then
  (if v330 = 0 then
  (gd (kC h339 x3 = 102 ∧ ixo (0 : Int32) (kN h339 x3)) <| if (jL h339 x3 ((0 : Int32)).toNatClampNeg) = (v335.toInt64) then
  (f_L_law_2072 L xs k23 x0 x1 x2 x3 x4 h339)
  else
  (some (.inl (0 : Int32), h339)))
  else
  (f_L_law_2072 L xs k23 x0 x1 x2 x3 x4 h339))
  else
  (some (.inl (0 : Int32), h339))
def f_L_law_2152 (L : Nat) (xs : Nat → Int32) (k23 : Unit → Nat → Nat → Nat → Int32 → Hp → Rt Int32) (x0 : Unit) (x1 : Nat) (x2 : Nat) (x3 : Nat) (x4 : Int32) (h : Hp) : Rt Int32 :=
  f_L_law_3277 L xs k23 x0 x1 x2 x3 x4 h
def f_L_law_2075 (L : Nat) (xs : Nat → Int32) (k23 : Unit → Nat → Nat → Nat → Int32 → Hp → Rt Int32) (x0 : Unit) (x1 : Nat) (x2 : Nat) (x3 : Nat) (x4 : Int32) (h : Hp) : Rt Int32 :=
  gd (ixo (x4 + (1 : Int32)) L) <| gd (ixo (x4 + (2 : Int32)) L) <| gd (ixo (x4 + (3 : Int32)) L) <| bdN (f_X0_settings x1 (xs ((x4 + (1 : Int32))).toNatClampNeg) (xs ((x4 + (2 : Int32))).toNatClampNeg) (xs ((x4 + (3 : Int32))).toNatClampNeg) x3 h) fun v345 h346 => gd (ixo (x4 + (1 : Int32)) L) <| gd (ixo (x4 + (2 : Int32)) L) <| gd (ixo (x4 + (3 : Int32)) L) <| gd (kC h346 x2 = 4) <| bdN (f_X4_settings x2 (xs ((x4 + (1 : Int32))).toNatClampNeg) (xs ((x4 + (2 : Int32))).toNatClampNeg) (xs ((x4 + (3 : Int32))).toNatClampNeg) h346) fun v350 h351 => gd (kC h351 x2 = 4) <| bdN (f_X4_thrown x2 h351) fun v353 h354 => if v353 = v345 then
  (if v345 = 0 then
  (gd (kC h354 x3 = 102 ∧ ixo (0 : Int32) (kN h354 x3)) <| if (jL h354 x3 ((0 : Int32)).toNatClampNeg) = (v350.toInt64) then
  (f_L_law_2152 L xs k23 x0 x1 x2 x3 x4 h354)
  else
  (some (.inl (0 : Int32), h354)))
  else
  (f_L_law_2152 L xs k23 x0 x1 x2 x3 x4 h354))
  else
  (some (.inl (0 : Int32), h354))
def f_L_law_2244 (L : Nat) (xs : Nat → Int32) (k23 : Unit → Nat → Nat → Nat → Int32 → Hp → Rt Int32) (x0 : Unit) (x1 : Nat) (x2 : Nat) (x3 : Nat) (x4 : Int32) (h : Hp) : Rt Int32 :=
  f_L_law_3277 L xs k23 x0 x1 x2 x3 x4 h
def f_L_law_2155 (L : Nat) (xs : Nat → Int32) (k23 : Unit → Nat → Nat → Nat → Int32 → Hp → Rt Int32) (x0 : Unit) (x1 : Nat) (x2 : Nat) (x3 : Nat) (x4 : Int32) (h : Hp) : Rt Int32 :=
  gd (ixo (x4 + (1 : Int32)) L) <| gd (ixo (x4 + (2 : Int32)) L) <| gd (ixo (x4 + (3 : Int32)) L) <| gd (ixo (x4 + (4 : Int32)) L) <| bdN (f_X0_claim x1 (xs ((x4 + (1 : Int32))).toNatClampNeg) (xs ((x4 + (2 : Int32))).toNatClampNeg) (xs ((x4 + (3 : Int32))).toNatClampNeg) (xs ((x4 + (4 : Int32))).toNatClampNeg) x3 h) fun v361 h362 => gd (ixo (x4 + (1 : Int32)) L) <| gd (ixo (x4 + (2 : Int32)) L) <| gd (ixo (x4 + (3 : Int32)) L) <| gd (ixo (x4 + (4 : Int32)) L) <| gd (kC h362 x2 = 4) <| bdN (f_X4_claim x2 (xs ((x4 + (1 : Int32))).toNatClampNeg) (xs ((x4 + (2 : Int32))).toNatClampNeg) (xs ((x4 + (3 : Int32))).toNatClampNeg) (xs ((x4 + (4 : Int32))).toNatClampNeg) h362) fun v367 h368 => gd (kC h368 x2 = 4) <| bdN (f_X4_thrown x2 h368) fun v370 h371 => if v370 = v361 then
  (if v361 = 0 then
  (gd (kC h371 x3 = 102 ∧ ixo (0 : Int32) (kN h371 x3)) <| if (jL h371 x3 ((0 : Int32)).toNatClampNeg) = (v367.toInt64) then
  (f_L_law_2244 L xs k23 x0 x1 x2 x3 x4 h371)
  else
  (some (.inl (0 : Int32), h371)))
  else
  (f_L_law_2244 L xs k23 x0 x1 x2 x3 x4 h371))
  else
  (some (.inl (0 : Int32), h371))
def f_L_law_2312 (L : Nat) (xs : Nat → Int32) (k23 : Unit → Nat → Nat → Nat → Int32 → Hp → Rt Int32) (x0 : Unit) (x1 : Nat) (x2 : Nat) (x3 : Nat) (x4 : Int32) (h : Hp) : Rt Int32 :=
  f_L_law_3277 L xs k23 x0 x1 x2 x3 x4 h
def f_L_law_2247 (L : Nat) (xs : Nat → Int32) (k23 : Unit → Nat → Nat → Nat → Int32 → Hp → Rt Int32) (x0 : Unit) (x1 : Nat) (x2 : Nat) (x3 : Nat) (x4 : Int32) (h : Hp) : Rt Int32 :=
  gd (ixo (x4 + (1 : Int32)) L) <| gd (ixo (x4 + (2 : Int32)) L) <| bdN (f_X0_claimAt x1 (xs ((x4 + (1 : Int32))).toNatClampNeg) (xs ((x4 + (2 : Int32))).toNatClampNeg) x3 h) fun v376 h377 => gd (ixo (x4 + (1 : Int32)) L) <| gd (ixo (x4 + (2 : Int32)) L) <| gd (kC h377 x2 = 4) <| bdN (f_X4_claimAt x2 (xs ((x4 + (1 : Int32))).toNatClampNeg) (xs ((x4 + (2 : Int32))).toNatClampNeg) h377) fun v380 h381 => gd (kC h381 x2 = 4) <| bdN (f_X4_thrown x2 h381) fun v383 h384 => if v383 = v376 then
  (if v376 = 0 then
  (gd (kC h384 x3 = 102 ∧ ixo (0 : Int32) (kN h384 x3)) <| if (jL h384 x3 ((0 : Int32)).toNatClampNeg) = (v380.toInt64) then
  (f_L_law_2312 L xs k23 x0 x1 x2 x3 x4 h384)
  else
  (some (.inl (0 : Int32), h384)))
  else
  (f_L_law_2312 L xs k23 x0 x1 x2 x3 x4 h384))
  else
  (some (.inl (0 : Int32), h384))
def f_L_law_2380 (L : Nat) (xs : Nat → Int32) (k23 : Unit → Nat → Nat → Nat → Int32 → Hp → Rt Int32) (x0 : Unit) (x1 : Nat) (x2 : Nat) (x3 : Nat) (x4 : Int32) (h : Hp) : Rt Int32 :=
  f_L_law_3277 L xs k23 x0 x1 x2 x3 x4 h
def f_L_law_2315 (L : Nat) (xs : Nat → Int32) (k23 : Unit → Nat → Nat → Nat → Int32 → Hp → Rt Int32) (x0 : Unit) (x1 : Nat) (x2 : Nat) (x3 : Nat) (x4 : Int32) (h : Hp) : Rt Int32 :=
  gd (ixo (x4 + (1 : Int32)) L) <| gd (ixo (x4 + (2 : Int32)) L) <| bdN (f_X0_takeOver x1 (xs ((x4 + (1 : Int32))).toNatClampNeg) (xs ((x4 + (2 : Int32))).toNatClampNeg) x3 h) fun v389 h390 => gd (ixo (x4 + (1 : Int32)) L) <| gd (ixo (x4 + (2 : Int32)) L) <| gd (kC h390 x2 = 4) <| bdN (f_X4_takeOver x2 (xs ((x4 + (1 : Int32))).toNatClampNeg) (xs ((x4 + (2 : Int32))).toNatClampNeg) h390) fun v393 h394 => gd (kC h394 x2 = 4) <| bdN (f_X4_thrown x2 h394) fun v396 h397 => if v396 = v389 then
  (if v389 = 0 then
  (gd (kC h397 x3 = 102 ∧ ixo (0 : Int32) (kN h397 x3)) <| if (jL h397 x3 ((0 : Int32)).toNatClampNeg) = (v393.toInt64) then
  (f_L_law_2380 L xs k23 x0 x1 x2 x3 x4 h397)
  else
  (some (.inl (0 : Int32), h397)))
  else
  (f_L_law_2380 L xs k23 x0 x1 x2 x3 x4 h397))
  else
  (some (.inl (0 : Int32), h397))
def f_L_law_2448 (L : Nat) (xs : Nat → Int32) (k23 : Unit → Nat → Nat → Nat → Int32 → Hp → Rt Int32) (x0 : Unit) (x1 : Nat) (x2 : Nat) (x3 : Nat) (x4 : Int32) (h : Hp) : Rt Int32 :=
  f_L_law_3277 L xs k23 x0 x1 x2 x3 x4 h
def f_L_law_2383 (L : Nat) (xs : Nat → Int32) (k23 : Unit → Nat → Nat → Nat → Int32 → Hp → Rt Int32) (x0 : Unit) (x1 : Nat) (x2 : Nat) (x3 : Nat) (x4 : Int32) (h : Hp) : Rt Int32 :=
  gd (ixo (x4 + (1 : Int32)) L) <| gd (ixo (x4 + (2 : Int32)) L) <| bdN (f_X0_parts x1 (xs ((x4 + (1 : Int32))).toNatClampNeg) (xs ((x4 + (2 : Int32))).toNatClampNeg) x3 h) fun v402 h403 => gd (ixo (x4 + (1 : Int32)) L) <| gd (ixo (x4 + (2 : Int32)) L) <| gd (kC h403 x2 = 4) <| bdN (f_X4_parts x2 (xs ((x4 + (1 : Int32))).toNatClampNeg) (xs ((x4 + (2 : Int32))).toNatClampNeg) h403) fun v406 h407 => gd (kC h407 x2 = 4) <| bdN (f_X4_thrown x2 h407) fun v409 h410 => if v409 = v402 then
  (if v402 = 0 then
  (gd (kC h410 x3 = 102 ∧ ixo (0 : Int32) (kN h410 x3)) <| if (jL h410 x3 ((0 : Int32)).toNatClampNeg) = (v406.toInt64) then
  (f_L_law_2448 L xs k23 x0 x1 x2 x3 x4 h410)
  else
  (some (.inl (0 : Int32), h410)))
  else
  (f_L_law_2448 L xs k23 x0 x1 x2 x3 x4 h410))
  else
  (some (.inl (0 : Int32), h410))
def f_L_law_2516 (L : Nat) (xs : Nat → Int32) (k23 : Unit → Nat → Nat → Nat → Int32 → Hp → Rt Int32) (x0 : Unit) (x1 : Nat) (x2 : Nat) (x3 : Nat) (x4 : Int32) (h : Hp) : Rt Int32 :=
  f_L_law_3277 L xs k23 x0 x1 x2 x3 x4 h
def f_L_law_2451 (L : Nat) (xs : Nat → Int32) (k23 : Unit → Nat → Nat → Nat → Int32 → Hp → Rt Int32) (x0 : Unit) (x1 : Nat) (x2 : Nat) (x3 : Nat) (x4 : Int32) (h : Hp) : Rt Int32 :=
  gd (ixo (x4 + (1 : Int32)) L) <| gd (ixo (x4 + (2 : Int32)) L) <| bdN (f_X0_cure x1 (xs ((x4 + (1 : Int32))).toNatClampNeg) (xs ((x4 + (2 : Int32))).toNatClampNeg) x3 h) fun v415 h416 => gd (ixo (x4 + (1 : Int32)) L) <| gd (ixo (x4 + (2 : Int32)) L) <| gd (kC h416 x2 = 4) <| bdN (f_X4_cure x2 (xs ((x4 + (1 : Int32))).toNatClampNeg) (xs ((x4 + (2 : Int32))).toNatClampNeg) h416) fun v419 h420 => gd (kC h420 x2 = 4) <| bdN (f_X4_thrown x2 h420) fun v422 h423 => if v422 = v415 then
  (if v415 = 0 then
  (gd (kC h423 x3 = 102 ∧ ixo (0 : Int32) (kN h423 x3)) <| if (jL h423 x3 ((0 : Int32)).toNatClampNeg) = (v419.toInt64) then
  (f_L_law_2516 L xs k23 x0 x1 x2 x3 x4 h423)
  else
  (some (.inl (0 : Int32), h423)))
  else
  (f_L_law_2516 L xs k23 x0 x1 x2 x3 x4 h423))
  else
  (some (.inl (0 : Int32), h423))
def f_L_law_2572 (L : Nat) (xs : Nat → Int32) (k23 : Unit → Nat → Nat → Nat → Int32 → Hp → Rt Int32) (x0 : Unit) (x1 : Nat) (x2 : Nat) (x3 : Nat) (x4 : Int32) (h : Hp) : Rt Int32 :=
  f_L_law_3277 L xs k23 x0 x1 x2 x3 x4 h
def f_L_law_2519 (L : Nat) (xs : Nat → Int32) (k23 : Unit → Nat → Nat → Nat → Int32 → Hp → Rt Int32) (x0 : Unit) (x1 : Nat) (x2 : Nat) (x3 : Nat) (x4 : Int32) (h : Hp) : Rt Int32 :=
  gd (ixo (x4 + (1 : Int32)) L) <| bdN (f_X0_sample x1 (xs ((x4 + (1 : Int32))).toNatClampNeg) x3 h) fun v427 h428 => gd (ixo (x4 + (1 : Int32)) L) <| gd (kC h428 x2 = 4) <| bdN (f_X4_sample x2 (xs ((x4 + (1 : Int32))).toNatClampNeg) h428) fun v430 h431 => gd (kC h431 x2 = 4) <| bdN (f_X4_thrown x2 h431) fun v433 h434 => if v433 = v427 then
  (if v427 = 0 then
  (gd (kC h434 x3 = 102 ∧ ixo (0 : Int32) (kN h434 x3)) <| if (jL h434 x3 ((0 : Int32)).toNatClampNeg) = (v430.toInt64) then
  (f_L_law_2572 L xs k23 x0 x1 x2 x3 x4 h434)
  else
  (some (.inl (0 : Int32), h434)))
  else
  (f_L_law_2572 L xs k23 x0 x1 x2 x3 x4 h434))
  else
  (some (.inl (0 : Int32), h434))
def f_L_law_2656 (L : Nat) (xs : Nat → Int32) (k23 : Unit → Nat → Nat → Nat → Int32 → Hp → Rt Int32) (x0 : Unit) (x1 : Nat) (x2 : Nat) (x3 : Nat) (x4 : Int32) (h : Hp) : Rt Int32 :=
  f_L_law_3277 L xs k23 x0 x1 x2 x3 x4 h
def f_L_law_2623 (L : Nat) (xs : Nat → Int32) (k23 : Unit → Nat → Nat → Nat → Int32 → Hp → Rt Int32) (x0 : Unit) (x1 : Nat) (x2 : Nat) (x3 : Nat) (x4 : Int32) (x5 : Int32) (y0 : Nat) (y1 : Int32) (y2 : Int32) (h : Hp) : Rt Int32 :=
  gd (kC h y0 = 4) <| bdN (f_X4_audit y0 y1 y2 h) fun v437 h438 => gd (kC h438 x2 = 4) <| bdN (f_X4_thrown x2 h438) fun v440 h441 => if v440 = x5 then
  (if x5 = 0 then
  (gd (kC h441 x3 = 102 ∧ ixo (0 : Int32) (kN h441 x3)) <| if (jL h441 x3 ((0 : Int32)).toNatClampNeg) = (v437.toInt64) then
  (f_L_law_2656 L xs k23 x0 x1 x2 x3 x4 h441)
  else
  (some (.inl (0 : Int32), h441)))
  else
  (f_L_law_2656 L xs k23 x0 x1 x2 x3 x4 h441))
  else
  (some (.inl (0 : Int32), h441))
def f_L_law_2596 (L : Nat) (xs : Nat → Int32) (k23 : Unit → Nat → Nat → Nat → Int32 → Hp → Rt Int32) (x0 : Unit) (x1 : Nat) (x2 : Nat) (x3 : Nat) (x4 : Int32) (y0 : Nat) (y1 : Int32) (y2 : Int32) (h : Hp) : Rt Int32 :=
  bdN (f_X0_audit y0 y1 y2 x3 h) fun v444 h445 => gd (ixo (x4 + (1 : Int32)) L) <| gd (ixo (x4 + (2 : Int32)) L) <| if (xs ((x4 + (2 : Int32))).toNatClampNeg) = 0 then
  (f_L_law_2623 L xs k23 x0 x1 x2 x3 x4 v444 x2 (xs ((x4 + (1 : Int32))).toNatClampNeg) (0 : Int32) h445)
  else
  (f_L_law_2623 L xs k23 x0 x1 x2 x3 x4 v444 x2 (xs ((x4 + (1 : Int32))).toNatClampNeg) (1 : Int32) h445)
def f_L_law_2575 (L : Nat) (xs : Nat → Int32) (k23 : Unit → Nat → Nat → Nat → Int32 → Hp → Rt Int32) (x0 : Unit) (x1 : Nat) (x2 : Nat) (x3 : Nat) (x4 : Int32) (h : Hp) : Rt Int32 :=
  gd (ixo (x4 + (1 : Int32)) L) <| gd (ixo (x4 + (2 : Int32)) L) <| if (xs ((x4 + (2 : Int32))).toNatClampNeg) = 0 then
  (f_L_law_2596 L xs k23 x0 x1 x2 x3 x4 x1 (xs ((x4 + (1 : Int32))).toNatClampNeg) (0 : Int32) h)
  else
  (f_L_law_2596 L xs k23 x0 x1 x2 x3 x4 x1 (xs ((x4 + (1 : Int32))).toNatClampNeg) (1 : Int32) h)
def f_L_law_2740 (L : Nat) (xs : Nat → Int32) (k23 : Unit → Nat → Nat → Nat → Int32 → Hp → Rt Int32) (x0 : Unit) (x1 : Nat) (x2 : Nat) (x3 : Nat) (x4 : Int32) (h : Hp) : Rt Int32 :=
  f_L_law_3277 L xs k23 x0 x1 x2 x3 x4 h
def f_L_law_2707 (L : Nat) (xs : Nat → Int32) (k23 : Unit → Nat → Nat → Nat → Int32 → Hp → Rt Int32) (x0 : Unit) (x1 : Nat) (x2 : Nat) (x3 : Nat) (x4 : Int32) (x5 : Int32) (y0 : Nat) (y1 : Int32) (y2 : Int32) (h : Hp) : Rt Int32 :=
  gd (kC h y0 = 4) <| bdN (f_X4_appeal y0 y1 y2 h) fun v450 h451 => gd (kC h451 x2 = 4) <| bdN (f_X4_thrown x2 h451) fun v453 h454 => if v453 = x5 then
  (if x5 = 0 then
  (gd (kC h454 x3 = 102 ∧ ixo (0 : Int32) (kN h454 x3)) <| if (jL h454 x3 ((0 : Int32)).toNatClampNeg) = (v450.toInt64) then
  (f_L_law_2740 L xs k23 x0 x1 x2 x3 x4 h454)
  else
  (some (.inl (0 : Int32), h454)))
  else
  (f_L_law_2740 L xs k23 x0 x1 x2 x3 x4 h454))
  else
  (some (.inl (0 : Int32), h454))
def f_L_law_2680 (L : Nat) (xs : Nat → Int32) (k23 : Unit → Nat → Nat → Nat → Int32 → Hp → Rt Int32) (x0 : Unit) (x1 : Nat) (x2 : Nat) (x3 : Nat) (x4 : Int32) (y0 : Nat) (y1 : Int32) (y2 : Int32) (h : Hp) : Rt Int32 :=
  bdN (f_X0_appeal y0 y1 y2 x3 h) fun v457 h458 => gd (ixo (x4 + (1 : Int32)) L) <| gd (ixo (x4 + (2 : Int32)) L) <| if (xs ((x4 + (2 : Int32))).toNatClampNeg) = 0 then
  (f_L_law_2707 L xs k23 x0 x1 x2 x3 x4 v457 x2 (xs ((x4 + (1 : Int32))).toNatClampNeg) (0 : Int32) h458)
  else
  (f_L_law_2707 L xs k23 x0 x1 x2 x3 x4 v457 x2 (xs ((x4 + (1 : Int32))).toNatClampNeg) (1 : Int32) h458)
def f_L_law_2659 (L : Nat) (xs : Nat → Int32) (k23 : Unit → Nat → Nat → Nat → Int32 → Hp → Rt Int32) (x0 : Unit) (x1 : Nat) (x2 : Nat) (x3 : Nat) (x4 : Int32) (h : Hp) : Rt Int32 :=
  gd (ixo (x4 + (1 : Int32)) L) <| gd (ixo (x4 + (2 : Int32)) L) <| if (xs ((x4 + (2 : Int32))).toNatClampNeg) = 0 then
  (f_L_law_2680 L xs k23 x0 x1 x2 x3 x4 x1 (xs ((x4 + (1 : Int32))).toNatClampNeg) (0 : Int32) h)
  else
  (f_L_law_2680 L xs k23 x0 x1 x2 x3 x4 x1 (xs ((x4 + (1 : Int32))).toNatClampNeg) (1 : Int32) h)
def f_L_law_2803 (L : Nat) (xs : Nat → Int32) (k23 : Unit → Nat → Nat → Nat → Int32 → Hp → Rt Int32) (x0 : Unit) (x1 : Nat) (x2 : Nat) (x3 : Nat) (x4 : Int32) (h : Hp) : Rt Int32 :=
  f_L_law_3277 L xs k23 x0 x1 x2 x3 x4 h
def f_L_law_2797 (L : Nat) (xs : Nat → Int32) (k23 : Unit → Nat → Nat → Nat → Int32 → Hp → Rt Int32) (x0 : Unit) (x1 : Nat) (x2 : Nat) (x3 : Nat) (x4 : Int32) (y0 : Int64) (y1 : Int64) (h : Hp) : Rt Int32 :=
  if y0 = y1 then
  (f_L_law_2803 L xs k23 x0 x1 x2 x3 x4 h)
  else
  (some (.inl (0 : Int32), h))
def f_L_law_2743 (L : Nat) (xs : Nat → Int32) (k23 : Unit → Nat → Nat → Nat → Int32 → Hp → Rt Int32) (x0 : Unit) (x1 : Nat) (x2 : Nat) (x3 : Nat) (x4 : Int32) (h : Hp) : Rt Int32 :=
  gd (ixo (x4 + (1 : Int32)) L) <| bdN (f_X0_percent x1 (xs ((x4 + (1 : Int32))).toNatClampNeg) x3 h) fun v464 h465 => gd (ixo (x4 + (1 : Int32)) L) <| gd (kC h465 x2 = 4) <| bdN (f_X4_percent x2 (xs ((x4 + (1 : Int32))).toNatClampNeg) h465) fun v467 h468 => gd (kC h468 x2 = 4) <| bdN (f_X4_thrown x2 h468) fun v470 h471 => if v470 = v464 then
  (if v464 = 0 then
  (gd (kC h471 x3 = 102 ∧ ixo (0 : Int32) (kN h471 x3)) <| if v467 = 0 then
  (f_L_law_2797 L xs k23 x0 x1 x2 x3 x4 (jL h471 x3 ((0 : Int32)).toNatClampNeg) (0 : Int64) h471)
  else
  (f_L_law_2797 L xs k23 x0 x1 x2 x3 x4 (jL h471 x3 ((0 : Int32)).toNatClampNeg) (1 : Int64) h471))
  else
  (f_L_law_2803 L xs k23 x0 x1 x2 x3 x4 h471))
  else
  (some (.inl (0 : Int32), h471))
def f_L_law_2846 (L : Nat) (xs : Nat → Int32) (k23 : Unit → Nat → Nat → Nat → Int32 → Hp → Rt Int32) (x0 : Unit) (x1 : Nat) (x2 : Nat) (x3 : Nat) (x4 : Int32) (h : Hp) : Rt Int32 :=
  f_L_law_3277 L xs k23 x0 x1 x2 x3 x4 h
def f_L_law_2806 (L : Nat) (xs : Nat → Int32) (k23 : Unit → Nat → Nat → Nat → Int32 → Hp → Rt Int32) (x0 : Unit) (x1 : Nat) (x2 : Nat) (x3 : Nat) (x4 : Int32) (h : Hp) : Rt Int32 :=
  bdN (f_X0_pay x1 x3 h) fun v474 h475 => gd (kC h475 x2 = 4) <| bdN (f_X4_pay x2 h475) fun v476 h477 => gd (kC h477 x2 = 4) <| bdN (f_X4_thrown x2 h477) fun v479 h480 => if v479 = v474 then
  (if v474 = 0 then
  (gd (kC h480 x3 = 102 ∧ ixo (0 : Int32) (kN h480 x3)) <| if (jL h480 x3 ((0 : Int32)).toNatClampNeg) = v476 then
  (f_L_law_2846 L xs k23 x0 x1 x2 x3 x4 h480)
  else
  (some (.inl (0 : Int32), h480)))
  else
  (f_L_law_2846 L xs k23 x0 x1 x2 x3 x4 h480))
  else
  (some (.inl (0 : Int32), h480))
def f_L_law_2942 (L : Nat) (xs : Nat → Int32) (k23 : Unit → Nat → Nat → Nat → Int32 → Hp → Rt Int32) (x0 : Unit) (x1 : Nat) (x2 : Nat) (x3 : Nat) (x4 : Int32) (h : Hp) : Rt Int32 :=
  f_L_law_3277 L xs k23 x0 x1 x2 x3 x4 h
def f_L_law_2909 (L : Nat) (xs : Nat → Int32) (k23 : Unit → Nat → Nat → Nat → Int32 → Hp → Rt Int32) (x0 : Unit) (x1 : Nat) (x2 : Nat) (x3 : Nat) (x4 : Int32) (x5 : Int32) (y0 : Nat) (y1 : Int32) (y2 : Int32) (y3 : Int32) (h : Hp) : Rt Int32 :=
  gd (kC h y0 = 4) <| bdN (f_X4_lien y0 y1 y2 y3 h) fun v483 h484 => gd (kC h484 x2 = 4) <| bdN (f_X4_thrown x2 h484) fun v486 h487 => if v486 = x5 then
  (if x5 = 0 then
  (gd (kC h487 x3 = 102 ∧ ixo (0 : Int32) (kN h487 x3)) <| if (jL h487 x3 ((0 : Int32)).toNatClampNeg) = (v483.toInt64) then
  (f_L_law_2942 L xs k23 x0 x1 x2 x3 x4 h487)
  else
  (some (.inl (0 : Int32), h487)))
  else
  (f_L_law_2942 L xs k23 x0 x1 x2 x3 x4 h487))
  else
  (some (.inl (0 : Int32), h487))
def f_L_law_2876 (L : Nat) (xs : Nat → Int32) (k23 : Unit → Nat → Nat → Nat → Int32 → Hp → Rt Int32) (x0 : Unit) (x1 : Nat) (x2 : Nat) (x3 : Nat) (x4 : Int32) (y0 : Nat) (y1 : Int32) (y2 : Int32) (y3 : Int32) (h : Hp) : Rt Int32 :=
  bdN (f_X0_lien y0 y1 y2 y3 x3 h) fun v490 h491 => gd (ixo (x4 + (1 : Int32)) L) <| gd (ixo (x4 + (2 : Int32)) L) <| gd (ixo (x4 + (3 : Int32)) L) <| if (xs ((x4 + (3 : Int32))).toNatClampNeg) = 0 then
  (f_L_law_2909 L xs k23 x0 x1 x2 x3 x4 v490 x2 (xs ((x4 + (1 : Int32))).toNatClampNeg) (xs ((x4 + (2 : Int32))).toNatClampNeg) (0 : Int32) h491)
  else
  (f_L_law_2909 L xs k23 x0 x1 x2 x3 x4 v490 x2 (xs ((x4 + (1 : Int32))).toNatClampNeg) (xs ((x4 + (2 : Int32))).toNatClampNeg) (1 : Int32) h491)
def f_L_law_2849 (L : Nat) (xs : Nat → Int32) (k23 : Unit → Nat → Nat → Nat → Int32 → Hp → Rt Int32) (x0 : Unit) (x1 : Nat) (x2 : Nat) (x3 : Nat) (x4 : Int32) (h : Hp) : Rt Int32 :=
  gd (ixo (x4 + (1 : Int32)) L) <| gd (ixo (x4 + (2 : Int32)) L) <| gd (ixo (x4 + (3 : Int32)) L) <| if (xs ((x4 + (3 : Int32))).toNatClampNeg) = 0 then
  (f_L_law_2876 L xs k23 x0 x1 x2 x3 x4 x1 (xs ((x4 + (1 : Int32))).toNatClampNeg) (xs ((x4 + (2 : Int32))).toNatClampNeg) (0 : Int32) h)
  else
  (f_L_law_2876 L xs k23 x0 x1 x2 x3 x4 x1 (xs ((x4 + (1 : Int32))).toNatClampNeg) (xs ((x4 + (2 : Int32))).toNatClampNeg) (1 : Int32) h)
def f_L_law_2998 (L : Nat) (xs : Nat → Int32) (k23 : Unit → Nat → Nat → Nat → Int32 → Hp → Rt Int32) (x0 : Unit) (x1 : Nat) (x2 : Nat) (x3 : Nat) (x4 : Int32) (h : Hp) : Rt Int32 :=
  f_L_law_3277 L xs k23 x0 x1 x2 x3 x4 h
def f_L_law_2945 (L : Nat) (xs : Nat → Int32) (k23 : Unit → Nat → Nat → Nat → Int32 → Hp → Rt Int32) (x0 : Unit) (x1 : Nat) (x2 : Nat) (x3 : Nat) (x4 : Int32) (h : Hp) : Rt Int32 :=
  gd (ixo (x4 + (1 : Int32)) L) <| bdN (f_X0_waive x1 (xs ((x4 + (1 : Int32))).toNatClampNeg) x3 h) fun v499 h500 => gd (ixo (x4 + (1 : Int32)) L) <| gd (kC h500 x2 = 4) <| bdN (f_X4_waive x2 (xs ((x4 + (1 : Int32))).toNatClampNeg) h500) fun v502 h503 => gd (kC h503 x2 = 4) <| bdN (f_X4_thrown x2 h503) fun v505 h506 => if v505 = v499 then
  (if v499 = 0 then
  (gd (kC h506 x3 = 102 ∧ ixo (0 : Int32) (kN h506 x3)) <| if (jL h506 x3 ((0 : Int32)).toNatClampNeg) = (v502.toInt64) then
  (f_L_law_2998 L xs k23 x0 x1 x2 x3 x4 h506)
  else
  (some (.inl (0 : Int32), h506)))
  else
  (f_L_law_2998 L xs k23 x0 x1 x2 x3 x4 h506))
  else
  (some (.inl (0 : Int32), h506))
def f_L_law_3041 (L : Nat) (xs : Nat → Int32) (k23 : Unit → Nat → Nat → Nat → Int32 → Hp → Rt Int32) (x0 : Unit) (x1 : Nat) (x2 : Nat) (x3 : Nat) (x4 : Int32) (h : Hp) : Rt Int32 :=
  f_L_law_3277 L xs k23 x0 x1 x2 x3 x4 h
def f_L_law_3001 (L : Nat) (xs : Nat → Int32) (k23 : Unit → Nat → Nat → Nat → Int32 → Hp → Rt Int32) (x0 : Unit) (x1 : Nat) (x2 : Nat) (x3 : Nat) (x4 : Int32) (h : Hp) : Rt Int32 :=
  bdN (f_X0_end x1 x3 h) fun v509 h510 => gd (kC h510 x2 = 4) <| bdN (f_X4_end x2 h510) fun v511 h512 => gd (kC h512 x2 = 4) <| bdN (f_X4_thrown x2 h512) fun v514 h515 => if v514 = v509 then
  (if v509 = 0 then
  (gd (kC h515 x3 = 102 ∧ ixo (0 : Int32) (kN h515 x3)) <| if (jL h515 x3 ((0 : Int32)).toNatClampNeg) = v511 then
  (f_L_law_3041 L xs k23 x0 x1 x2 x3 x4 h515)
  else
  (some (.inl (0 : Int32), h515)))
  else
  (f_L_law_3041 L xs k23 x0 x1 x2 x3 x4 h515))
  else
  (some (.inl (0 : Int32), h515))
def f_L_law_3096 (L : Nat) (xs : Nat → Int32) (k23 : Unit → Nat → Nat → Nat → Int32 → Hp → Rt Int32) (x0 : Unit) (x1 : Nat) (x2 : Nat) (x3 : Nat) (x4 : Int32) (h : Hp) : Rt Int32 :=
  f_L_law_3277 L xs k23 x0 x1 x2 x3 x4 h
def f_L_law_3044 (L : Nat) (xs : Nat → Int32) (k23 : Unit → Nat → Nat → Nat → Int32 → Hp → Rt Int32) (x0 : Unit) (x1 : Nat) (x2 : Nat) (x3 : Nat) (x4 : Int32) (h : Hp) : Rt Int32 :=
  gd (ixo (x4 + (1 : Int32)) L) <| bdN (f_X0_fundAt x1 (xs ((x4 + (1 : Int32))).toNatClampNeg) x3 h) fun v519 h520 => gd (ixo (x4 + (1 : Int32)) L) <| gd (kC h520 x2 = 4) <| bdN (f_X4_fundAt x2 (xs ((x4 + (1 : Int32))).toNatClampNeg) h520) fun v522 h523 => gd (kC h523 x2 = 4) <| bdN (f_X4_thrown x2 h523) fun v525 h526 => if v525 = v519 then
  (if v519 = 0 then
  (gd (kC h526 x3 = 102 ∧ ixo (0 : Int32) (kN h526 x3)) <| if (jL h526 x3 ((0 : Int32)).toNatClampNeg) = v522 then
  (f_L_law_3096 L xs k23 x0 x1 x2 x3 x4 h526)
  else
  (some (.inl (0 : Int32), h526)))
  else
  (f_L_law_3096 L xs k23 x0 x1 x2 x3 x4 h526))
  else
  (some (.inl (0 : Int32), h526))
def f_L_law_3151 (L : Nat) (xs : Nat → Int32) (k23 : Unit → Nat → Nat → Nat → Int32 → Hp → Rt Int32) (x0 : Unit) (x1 : Nat) (x2 : Nat) (x3 : Nat) (x4 : Int32) (h : Hp) : Rt Int32 :=
  f_L_law_3277 L xs k23 x0 x1 x2 x3 x4 h
def f_L_law_3099 (L : Nat) (xs : Nat → Int32) (k23 : Unit → Nat → Nat → Nat → Int32 → Hp → Rt Int32) (x0 : Unit) (x1 : Nat) (x2 : Nat) (x3 : Nat) (x4 : Int32) (h : Hp) : Rt Int32 :=
  gd (ixo (x4 + (1 : Int32)) L) <| bdN (f_X0_lawyerAt x1 (xs ((x4 + (1 : Int32))).toNatClampNeg) x3 h) fun v530 h531 => gd (ixo (x4 + (1 : Int32)) L) <| gd (kC h531 x2 = 4) <| bdN (f_X4_lawyerAt x2 (xs ((x4 + (1 : Int32))).toNatClampNeg) h531) fun v533 h534 => gd (kC h534 x2 = 4) <| bdN (f_X4_thrown x2 h534) fun v536 h537 => if v536 = v530 then
  (if v530 = 0 then
  (gd (kC h537 x3 = 102 ∧ ixo (0 : Int32) (kN h537 x3)) <| if (jL h537 x3 ((0 : Int32)).toNatClampNeg) = v533 then
  (f_L_law_3151 L xs k23 x0 x1 x2 x3 x4 h537)
  else
  (some (.inl (0 : Int32), h537)))
  else
  (f_L_law_3151 L xs k23 x0 x1 x2 x3 x4 h537))
  else
  (some (.inl (0 : Int32), h537))
def f_L_law_3207 (L : Nat) (xs : Nat → Int32) (k23 : Unit → Nat → Nat → Nat → Int32 → Hp → Rt Int32) (x0 : Unit) (x1 : Nat) (x2 : Nat) (x3 : Nat) (x4 : Int32) (h : Hp) : Rt Int32 :=
  f_L_law_3277 L xs k23 x0 x1 x2 x3 x4 h
def f_L_law_3154 (L : Nat) (xs : Nat → Int32) (k23 : Unit → Nat → Nat → Nat → Int32 → Hp → Rt Int32) (x0 : Unit) (x1 : Nat) (x2 : Nat) (x3 : Nat) (x4 : Int32) (h : Hp) : Rt Int32 :=
  gd (ixo (x4 + (1 : Int32)) L) <| bdN (f_X0_count x1 (xs ((x4 + (1 : Int32))).toNatClampNeg) x3 h) fun v541 h542 => gd (ixo (x4 + (1 : Int32)) L) <| gd (kC h542 x2 = 4) <| bdN (f_X4_count x2 (xs ((x4 + (1 : Int32))).toNatClampNeg) h542) fun v544 h545 => gd (kC h545 x2 = 4) <| bdN (f_X4_thrown x2 h545) fun v547 h548 => if v547 = v541 then
  (if v541 = 0 then
  (gd (kC h548 x3 = 102 ∧ ixo (0 : Int32) (kN h548 x3)) <| if (jL h548 x3 ((0 : Int32)).toNatClampNeg) = (v544.toInt64) then
  (f_L_law_3207 L xs k23 x0 x1 x2 x3 x4 h548)
  else
  (some (.inl (0 : Int32), h548)))
  else
  (f_L_law_3207 L xs k23 x0 x1 x2 x3 x4 h548))
  else
  (some (.inl (0 : Int32), h548))
def f_L_law_3210 (L : Nat) (xs : Nat → Int32) (k23 : Unit → Nat → Nat → Nat → Int32 → Hp → Rt Int32) (x0 : Unit) (x1 : Nat) (x2 : Nat) (x3 : Nat) (x4 : Int32) (h : Hp) : Rt Int32 :=
  gd (kC h x1 = 1) <| bdN (f_X1_errors x1 h) fun v551 h552 => gd (kC h552 x2 = 4) <| bdN (f_X4_errors x2 h552) fun v554 h555 => if v551 = v554 then
  (f_L_law_3277 L xs k23 x0 x1 x2 x3 x4 h555)
  else
  (some (.inl (0 : Int32), h555))
def f_L_law_3223 (L : Nat) (xs : Nat → Int32) (k23 : Unit → Nat → Nat → Nat → Int32 → Hp → Rt Int32) (x0 : Unit) (x1 : Nat) (x2 : Nat) (x3 : Nat) (x4 : Int32) (h : Hp) : Rt Int32 :=
  gd (kC h x1 = 1) <| bdN (f_X1_paidBits x1 h) fun v557 h558 => gd (kC h558 x2 = 4) <| bdN (f_X4_paidBits x2 h558) fun v560 h561 => if v557 = v560 then
  (f_L_law_3277 L xs k23 x0 x1 x2 x3 x4 h561)
  else
  (some (.inl (0 : Int32), h561))
def f_L_law_3274 (L : Nat) (xs : Nat → Int32) (k23 : Unit → Nat → Nat → Nat → Int32 → Hp → Rt Int32) (x0 : Unit) (x1 : Nat) (x2 : Nat) (x3 : Nat) (x4 : Int32) (h : Hp) : Rt Int32 :=
  f_L_law_3277 L xs k23 x0 x1 x2 x3 x4 h
def f_L_law_3272 (L : Nat) (xs : Nat → Int32)  (h : Hp) : Rt Int32 :=
  some (.inl (0 : Int32), h)
def f_L_law_3236 (L : Nat) (xs : Nat → Int32) (k23 : Unit → Nat → Nat → Nat → Int32 → Hp → Rt Int32) (x0 : Unit) (x1 : Nat) (x2 : Nat) (x3 : Nat) (x4 : Int32) (h : Hp) : Rt Int32 :=
  gd (kC h x1 = 1) <| bdN (f_X1_meanDelivered x1 h) fun v563 h564 => gd (kC h564 x2 = 4) <| bdN (f_X4_meanDelivered x2 h564) fun v566 h567 => if (Op.cmpValue (FP.dcmp v563 v566) .l) = 0 then
  (f_L_law_3274 L xs k23 x0 x1 x2 x3 x4 h567)
  else
  (if (Op.cmpValue (FP.dcmp v563 v563) .l) = 0 then
  (f_L_law_3272 L xs  h567)
  else
  (if (Op.cmpValue (FP.dcmp v566 v566) .l) = 0 then
  (f_L_law_3272 L xs  h567)
  else
  (f_L_law_3274 L xs k23 x0 x1 x2 x3 x4 h567)))
def f_L_law_23 (L : Nat) (xs : Nat → Int32)  : Nat → Unit → Nat → Nat → Nat → Int32 → Hp → Rt Int32
  | 0, _, _, _, _, _, _ => none
  | n + 1, x0, x1, x2, x3, x4, h => if ((Int32.ofNat L) - (5 : Int32)) < x4 then
  (some (.inl (1 : Int32), h))
  else
  (gd (ixo x4 L) <| vl ((xs (x4).toNatClampNeg) &&& (63 : Int32)) fun v570 => if v570 = (0 : Int32) then
  (f_L_law_240 L xs (f_L_law_23 L xs n) x0 x1 x2 x3 x4 h)
  else
  if v570 = (1 : Int32) then
  (f_L_law_253 L xs (f_L_law_23 L xs n) x0 x1 x2 x3 x4 h)
  else
  if v570 = (2 : Int32) then
  (f_L_law_309 L xs (f_L_law_23 L xs n) x0 x1 x2 x3 x4 h)
  else
  if v570 = (3 : Int32) then
  (f_L_law_401 L xs (f_L_law_23 L xs n) x0 x1 x2 x3 x4 h)
  else
  if v570 = (4 : Int32) then
  (f_L_law_469 L xs (f_L_law_23 L xs n) x0 x1 x2 x3 x4 h)
  else
  if v570 = (5 : Int32) then
  (f_L_law_536 L xs (f_L_law_23 L xs n) x0 x1 x2 x3 x4 h)
  else
  if v570 = (6 : Int32) then
  (f_L_law_616 L xs (f_L_law_23 L xs n) x0 x1 x2 x3 x4 h)
  else
  if v570 = (7 : Int32) then
  (f_L_law_712 L xs (f_L_law_23 L xs n) x0 x1 x2 x3 x4 h)
  else
  if v570 = (8 : Int32) then
  (f_L_law_780 L xs (f_L_law_23 L xs n) x0 x1 x2 x3 x4 h)
  else
  if v570 = (9 : Int32) then
  (f_L_law_847 L xs (f_L_law_23 L xs n) x0 x1 x2 x3 x4 h)
  else
  if v570 = (10 : Int32) then
  (f_L_law_914 L xs (f_L_law_23 L xs n) x0 x1 x2 x3 x4 h)
  else
  if v570 = (11 : Int32) then
  (f_L_law_982 L xs (f_L_law_23 L xs n) x0 x1 x2 x3 x4 h)
  else
  if v570 = (12 : Int32) then
  (f_L_law_1073 L xs (f_L_law_23 L xs n) x0 x1 x2 x3 x4 h)
  else
  if v570 = (13 : Int32) then
  (f_L_law_1164 L xs (f_L_law_23 L xs n) x0 x1 x2 x3 x4 h)
  else
  if v570 = (14 : Int32) then
  (f_L_law_1227 L xs (f_L_law_23 L xs n) x0 x1 x2 x3 x4 h)
  else
  if v570 = (15 : Int32) then
  (f_L_law_1283 L xs (f_L_law_23 L xs n) x0 x1 x2 x3 x4 h)
  else
  if v570 = (16 : Int32) then
  (f_L_law_1351 L xs (f_L_law_23 L xs n) x0 x1 x2 x3 x4 h)
  else
  if v570 = (17 : Int32) then
  (f_L_law_1407 L xs (f_L_law_23 L xs n) x0 x1 x2 x3 x4 h)
  else
  if v570 = (18 : Int32) then
  (f_L_law_1475 L xs (f_L_law_23 L xs n) x0 x1 x2 x3 x4 h)
  else
  if v570 = (19 : Int32) then
  (f_L_law_1542 L xs (f_L_law_23 L xs n) x0 x1 x2 x3 x4 h)
  else
  if v570 = (20 : Int32) then
  (f_L_law_1597 L xs (f_L_law_23 L xs n) x0 x1 x2 x3 x4 h)
  else
  if v570 = (21 : Int32) then
  (f_L_law_1664 L xs (f_L_law_23 L xs n) x0 x1 x2 x3 x4 h)
  else
  if v570 = (22 : Int32) then
  (f_L_law_1744 L xs (f_L_law_23 L xs n) x0 x1 x2 x3 x4 h)
  else
  if v570 = (23 : Int32) then
  (f_L_law_1788 L xs (f_L_law_23 L xs n) x0 x1 x2 x3 x4 h)
  else
  if v570 = (24 : Int32) then
  (f_L_law_1872 L xs (f_L_law_23 L xs n) x0 x1 x2 x3 x4 h)
  else
  if v570 = (25 : Int32) then
  (f_L_law_1940 L xs (f_L_law_23 L xs n) x0 x1 x2 x3 x4 h)
  else
  if v570 = (26 : Int32) then
  (f_L_law_1995 L xs (f_L_law_23 L xs n) x0 x1 x2 x3 x4 h)
  else
  if v570 = (27 : Int32) then
  (f_L_law_2075 L xs (f_L_law_23 L xs n) x0 x1 x2 x3 x4 h)
  else
  if v570 = (28 : Int32) then
  (f_L_law_2155 L xs (f_L_law_23 L xs n) x0 x1 x2 x3 x4 h)
  else
  if v570 = (29 : Int32) then
  (f_L_law_2247 L xs (f_L_law_23 L xs n) x0 x1 x2 x3 x4 h)
  else
  if v570 = (30 : Int32) then
  (f_L_law_2315 L xs (f_L_law_23 L xs n) x0 x1 x2 x3 x4 h)
  else
  if v570 = (31 : Int32) then
  (f_L_law_2383 L xs (f_L_law_23 L xs n) x0 x1 x2 x3 x4 h)
  else
  if v570 = (32 : Int32) then
  (f_L_law_2451 L xs (f_L_law_23 L xs n) x0 x1 x2 x3 x4 h)
  else
  if v570 = (33 : Int32) then
  (f_L_law_2519 L xs (f_L_law_23 L xs n) x0 x1 x2 x3 x4 h)
  else
  if v570 = (34 : Int32) then
  (f_L_law_2575 L xs (f_L_law_23 L xs n) x0 x1 x2 x3 x4 h)
  else
  if v570 = (35 : Int32) then
  (f_L_law_2659 L xs (f_L_law_23 L xs n) x0 x1 x2 x3 x4 h)
  else
  if v570 = (36 : Int32) then
  (f_L_law_2743 L xs (f_L_law_23 L xs n) x0 x1 x2 x3 x4 h)
  else
  if v570 = (37 : Int32) then
  (f_L_law_2806 L xs (f_L_law_23 L xs n) x0 x1 x2 x3 x4 h)
  else
  if v570 = (38 : Int32) then
  (f_L_law_2849 L xs (f_L_law_23 L xs n) x0 x1 x2 x3 x4 h)
  else
  if v570 = (39 : Int32) then
  (f_L_law_2945 L xs (f_L_law_23 L xs n) x0 x1 x2 x3 x4 h)
  else
  if v570 = (40 : Int32) then
  (f_L_law_3001 L xs (f_L_law_23 L xs n) x0 x1 x2 x3 x4 h)
  else
  if v570 = (41 : Int32) then
  (f_L_law_3044 L xs (f_L_law_23 L xs n) x0 x1 x2 x3 x4 h)
  else
  if v570 = (42 : Int32) then
  (f_L_law_3099 L xs (f_L_law_23 L xs n) x0 x1 x2 x3 x4 h)
  else
  if v570 = (43 : Int32) then
  (f_L_law_3154 L xs (f_L_law_23 L xs n) x0 x1 x2 x3 x4 h)
  else
  if v570 = (44 : Int32) then
  (f_L_law_3210 L xs (f_L_law_23 L xs n) x0 x1 x2 x3 x4 h)
  else
  if v570 = (45 : Int32) then
  (f_L_law_3223 L xs (f_L_law_23 L xs n) x0 x1 x2 x3 x4 h)
  else
  if v570 = (46 : Int32) then
  (f_L_law_3236 L xs (f_L_law_23 L xs n) x0 x1 x2 x3 x4 h)
  else
  (f_L_law_3277 L xs (f_L_law_23 L xs n) x0 x1 x2 x3 x4 h))
def f_L_law (L : Nat) (xs : Nat → Int32)  (x0 : Unit) (h : Hp) : Rt Int32 :=
  nw h 1 19 fun q571 h572 => gd (kC h572 q571 = 1) <| bdN (f_X1_init q571 h572) fun _ h574 => nw h574 4 29 fun q576 h577 => gd (kC h577 q576 = 4) <| bdN (f_X4_init q576 h577) fun _ h579 => na h579 102 (1 : Int32) fun q581 h582 => f_L_law_23 L xs FU x0 q571 q576 q581 (0 : Int32) h582
theorem b_L_law_3277 {rr : (Int32 ⊕ Ex) × Hp} {k23 : Unit → Nat → Nat → Nat → Int32 → Hp → Rt Int32} {b L : Nat} {xs : Nat → Int32} {et9 : List (Nat × Nat × Nat × Nat)} (C : CX p l room_1 s m #[Value.ref b] meth c D s.heap cL_law "MassclaimLaw" 9 ret et9 8192 104096) (hok : rr.1 = .inl 1) (hS : va_X b L xs s s.heap ∧ b < s.heap.size) (K23 : ∀ (x0 : Unit) (x1 : Nat) (x2 : Nat) (x3 : Nat) (x4 : Int32) (h : Hp) (H : Heap) (locs : List Loc) (cells slots : Nat) (ls : Array Slot), HP D s.heap h H → LO s.heap locs → lv_has ls 9 [(0, .ref b), (1, rv x1), (2, rv x2), (3, rv x3), (4, .int x4)] → k23 x0 x1 x2 x3 x4 h = some rr → W p l e room_1 s m #[Value.ref b] below meth c H locs cells slots (lw_Z below #[Value.ref b] s) (F0 m 23 ls [])) : ∀ (x0 : Unit) (x1 : Nat) (x2 : Nat) (x3 : Nat) (x4 : Int32) (h : Hp) (H : Heap) (locs : List Loc) (cells slots : Nat) (ls : Array Slot), HP D s.heap h H → LO s.heap locs → lv_has ls 9 [(0, .ref b), (1, rv x1), (2, rv x2), (3, rv x3), (4, .int x4)] → f_L_law_3277 L xs k23 x0 x1 x2 x3 x4 h = some rr → W p l e room_1 s m #[Value.ref b] below meth c H locs cells slots (lw_Z below #[Value.ref b] s) (F0 m 3277 ls []) := by
  obtain ⟨⟨hx, hb, hml, hown, hts⟩, -⟩ := id C
  have hl9 := C.2.1.2.2.1
  intro x0 x1 x2 x3 x4 h H locs cells slots ls hH hL hl hrun
  unfold f_L_law_3277 at hrun
  obtain ⟨v1, ev1⟩ : ∃ y : Int32, y = x4 + (5 : Int32) := ⟨_, rfl⟩
  have hrun := vl_at hrun v1 ev1
  refine lv_iinc (v := v1) (lv' := [(4, .int v1), (0, .ref b), (1, rv x1), (2, rv x2), (3, rv x3)]) (pc := 3277) hx hb dL_law_3277 hl (k := 4) rfl (by rw [ev1]; rfl) (by decide) (by first | rfl | simp [rv_cat, cat_i, cat_l, cat_f, cat_d]) (fun ls hl => ?_)
  refine lv_goto (tgt := 23) (pc := 3280) hx hb dL_law_3280 (by decide) ?_
  exact K23 x0 x1 x2 x3 v1 h H locs cells slots ls hH hL (lv_sub hl [1, 2, 3, 4, 0] rfl) hrun

theorem b_L_law_240 {rr : (Int32 ⊕ Ex) × Hp} {k23 : Unit → Nat → Nat → Nat → Int32 → Hp → Rt Int32} {b L : Nat} {xs : Nat → Int32} {et9 : List (Nat × Nat × Nat × Nat)} (C : CX p l room_1 s m #[Value.ref b] meth c D s.heap cL_law "MassclaimLaw" 9 ret et9 8192 104096) (hok : rr.1 = .inl 1) (hS : va_X b L xs s s.heap ∧ b < s.heap.size) (K23 : ∀ (x0 : Unit) (x1 : Nat) (x2 : Nat) (x3 : Nat) (x4 : Int32) (h : Hp) (H : Heap) (locs : List Loc) (cells slots : Nat) (ls : Array Slot), HP D s.heap h H → LO s.heap locs → lv_has ls 9 [(0, .ref b), (1, rv x1), (2, rv x2), (3, rv x3), (4, .int x4)] → k23 x0 x1 x2 x3 x4 h = some rr → W p l e room_1 s m #[Value.ref b] below meth c H locs cells slots (lw_Z below #[Value.ref b] s) (F0 m 23 ls [])) : ∀ (x0 : Unit) (x1 : Nat) (x2 : Nat) (x3 : Nat) (x4 : Int32) (h : Hp) (H : Heap) (locs : List Loc) (cells slots : Nat) (ls : Array Slot), HP D s.heap h H → LO s.heap locs → lv_has ls 9 [(0, .ref b), (1, rv x1), (2, rv x2), (3, rv x3), (4, .int x4)] → f_L_law_240 L xs k23 x0 x1 x2 x3 x4 h = some rr → W p l e room_1 s m #[Value.ref b] below meth c H locs cells slots (lw_Z below #[Value.ref b] s) (F0 m 240 ls []) := by
  obtain ⟨⟨hx, hb, hml, hown, hts⟩, -⟩ := id C
  have hl9 := C.2.1.2.2.1
  intro x0 x1 x2 x3 x4 h H locs cells slots ls hH hL hl hrun
  unfold f_L_law_240 at hrun
  refine V_aload_n (pc := 240) hx hb dL_law_240 rfl (lv_at hl 1 rfl) ?_
  obtain ⟨c4, hrun⟩ := gd_some hrun
  refine V_bdN (pc := 241) hL hrun (fun rr1 e1 => Z_runV (rest := []) C hH (m_X1_begin hl9 e1) wV_X0_160 c4 rfl (by decide) rfl rfl ⟨by decide, by decide⟩ rfl (Nat.le_of_ble_eq_true rfl) hl.1 dL_law_241) (fun v2 h3 H locs cells slots hH hL hrun => ?_)
  refine V_aload_n (pc := 244) hx hb dL_law_244 rfl (lv_at hl 2 rfl) ?_
  obtain ⟨c7, hrun⟩ := gd_some hrun
  refine V_bdN (pc := 245) hL hrun (fun rr1 e1 => Z_runV (rest := [.int v2]) C hH (m_X4_begin hl9 e1) wV_X0_163 c7 rfl (by decide) rfl rfl ⟨by decide, by decide⟩ rfl (Nat.le_of_ble_eq_true rfl) hl.1 dL_law_245) (fun v5 h6 H locs cells slots hH hL hrun => ?_)
  refine lv_icmp_eq (tgt := 3277) (pc := 248) hx hb dL_law_248 (by decide) (fun c_ => ?_) (fun c_ => ?_)
  · have hrun := ite_t hrun c_
    exact b_L_law_3277 C hok hS K23 x0 x1 x2 x3 x4 h6 H locs cells slots ls hH hL (lv_sub hl [0, 1, 2, 3, 4] rfl) hrun
  · have hrun := ite_f hrun c_
    refine lv_iconst (v := (0 : Int32)) (pc := 251) hx hb dL_law_251 (by decide) ?_
    exact V_lawret (pc := 252) C hH hL hok hrun dL_law_252

theorem b_L_law_306 {rr : (Int32 ⊕ Ex) × Hp} {k23 : Unit → Nat → Nat → Nat → Int32 → Hp → Rt Int32} {b L : Nat} {xs : Nat → Int32} {et9 : List (Nat × Nat × Nat × Nat)} (C : CX p l room_1 s m #[Value.ref b] meth c D s.heap cL_law "MassclaimLaw" 9 ret et9 8192 104096) (hok : rr.1 = .inl 1) (hS : va_X b L xs s s.heap ∧ b < s.heap.size) (K23 : ∀ (x0 : Unit) (x1 : Nat) (x2 : Nat) (x3 : Nat) (x4 : Int32) (h : Hp) (H : Heap) (locs : List Loc) (cells slots : Nat) (ls : Array Slot), HP D s.heap h H → LO s.heap locs → lv_has ls 9 [(0, .ref b), (1, rv x1), (2, rv x2), (3, rv x3), (4, .int x4)] → k23 x0 x1 x2 x3 x4 h = some rr → W p l e room_1 s m #[Value.ref b] below meth c H locs cells slots (lw_Z below #[Value.ref b] s) (F0 m 23 ls [])) : ∀ (x0 : Unit) (x1 : Nat) (x2 : Nat) (x3 : Nat) (x4 : Int32) (h : Hp) (H : Heap) (locs : List Loc) (cells slots : Nat) (ls : Array Slot), HP D s.heap h H → LO s.heap locs → lv_has ls 9 [(0, .ref b), (1, rv x1), (2, rv x2), (3, rv x3), (4, .int x4)] → f_L_law_306 L xs k23 x0 x1 x2 x3 x4 h = some rr → W p l e room_1 s m #[Value.ref b] below meth c H locs cells slots (lw_Z below #[Value.ref b] s) (F0 m 306 ls []) := by
  obtain ⟨⟨hx, hb, hml, hown, hts⟩, -⟩ := id C
  have hl9 := C.2.1.2.2.1
  intro x0 x1 x2 x3 x4 h H locs cells slots ls hH hL hl hrun
  unfold f_L_law_306 at hrun
  refine lv_goto (tgt := 3277) (pc := 306) hx hb dL_law_306 (by decide) ?_
  exact b_L_law_3277 C hok hS K23 x0 x1 x2 x3 x4 h H locs cells slots ls hH hL (lv_sub hl [0, 1, 2, 3, 4] rfl) hrun

theorem b_L_law_253 {rr : (Int32 ⊕ Ex) × Hp} {k23 : Unit → Nat → Nat → Nat → Int32 → Hp → Rt Int32} {b L : Nat} {xs : Nat → Int32} {et9 : List (Nat × Nat × Nat × Nat)} (C : CX p l room_1 s m #[Value.ref b] meth c D s.heap cL_law "MassclaimLaw" 9 ret et9 8192 104096) (hok : rr.1 = .inl 1) (hS : va_X b L xs s s.heap ∧ b < s.heap.size) (K23 : ∀ (x0 : Unit) (x1 : Nat) (x2 : Nat) (x3 : Nat) (x4 : Int32) (h : Hp) (H : Heap) (locs : List Loc) (cells slots : Nat) (ls : Array Slot), HP D s.heap h H → LO s.heap locs → lv_has ls 9 [(0, .ref b), (1, rv x1), (2, rv x2), (3, rv x3), (4, .int x4)] → k23 x0 x1 x2 x3 x4 h = some rr → W p l e room_1 s m #[Value.ref b] below meth c H locs cells slots (lw_Z below #[Value.ref b] s) (F0 m 23 ls [])) : ∀ (x0 : Unit) (x1 : Nat) (x2 : Nat) (x3 : Nat) (x4 : Int32) (h : Hp) (H : Heap) (locs : List Loc) (cells slots : Nat) (ls : Array Slot), HP D s.heap h H → LO s.heap locs → lv_has ls 9 [(0, .ref b), (1, rv x1), (2, rv x2), (3, rv x3), (4, .int x4)] → f_L_law_253 L xs k23 x0 x1 x2 x3 x4 h = some rr → W p l e room_1 s m #[Value.ref b] below meth c H locs cells slots (lw_Z below #[Value.ref b] s) (F0 m 253 ls []) := by
  obtain ⟨⟨hx, hb, hml, hown, hts⟩, -⟩ := id C
  have hl9 := C.2.1.2.2.1
  intro x0 x1 x2 x3 x4 h H locs cells slots ls hH hL hl hrun
  unfold f_L_law_253 at hrun
  refine V_aload_n (pc := 253) hx hb dL_law_253 rfl (lv_at hl 1 rfl) ?_
  refine lv_aload_n (pc := 254) hx hb dL_law_254 rfl (lv_at hl 0 rfl) ?_
  refine lv_iload (pc := 255) hx hb dL_law_255 (lv_at hl 4 rfl) ?_
  refine lv_iconst (v := (1 : Int32)) (pc := 257) hx hb dL_law_257 (by decide) ?_
  refine lv_iadd (pc := 258) hx hb dL_law_258 ?_
  obtain ⟨c8, hrun⟩ := gd_some hrun
  refine V_sld (pc := 259) C hH hS dL_law_259 c8 ?_
  refine V_aload_n (pc := 260) hx hb dL_law_260 rfl (lv_at hl 3 rfl) ?_
  refine V_bdN (pc := 261) hL hrun (fun rr1 e1 => Z_runSH (rest := []) C hH (m_X0_goOn hl9 e1) wSH_X0_164 rfl ⟨by decide, by decide⟩ rfl (Nat.le_of_ble_eq_true rfl) hl.1 dL_law_261) (fun v9 h10 H locs cells slots hH hL hrun => ?_)
  refine lv_istore (i := 5) (lv' := [(5, .int v9), (0, .ref b), (1, rv x1), (2, rv x2), (3, rv x3), (4, .int x4)]) (pc := 264) hx hb dL_law_264 hl (by decide) rfl (fun ls hl => ?_)
  refine V_aload_n (pc := 266) hx hb dL_law_266 rfl (lv_at hl 3 rfl) ?_
  refine lv_aload_n (pc := 267) hx hb dL_law_267 rfl (lv_at hl 1 rfl) ?_
  refine lv_iload (pc := 268) hx hb dL_law_268 (lv_at hl 5 rfl) ?_
  refine lv_iconst (v := (1 : Int32)) (pc := 270) hx hb dL_law_270 (by decide) ?_
  refine lv_iadd (pc := 271) hx hb dL_law_271 ?_
  obtain ⟨c11, hrun⟩ := gd_some hrun
  refine V_sld (pc := 272) C hH hS dL_law_272 c11 ?_
  obtain ⟨c14, hrun⟩ := gd_some hrun
  refine V_bdN (pc := 273) hL hrun (fun rr1 e1 => Z_runV (rest := []) C hH (m_X4_goOn hl9 e1) wV_X0_169 c14 rfl (by decide) rfl rfl ⟨by decide, by decide⟩ rfl (Nat.le_of_ble_eq_true rfl) hl.1 dL_law_273) (fun v12 h13 H locs cells slots hH hL hrun => ?_)
  refine lv_istore (i := 6) (lv' := [(6, .int v12), (5, .int v9), (0, .ref b), (1, rv x1), (2, rv x2), (3, rv x3), (4, .int x4)]) (pc := 276) hx hb dL_law_276 hl (by decide) rfl (fun ls hl => ?_)
  refine V_aload_n (pc := 278) hx hb dL_law_278 rfl (lv_at hl 4 rfl) ?_
  obtain ⟨c17, hrun⟩ := gd_some hrun
  refine V_bdN (pc := 279) hL hrun (fun rr1 e1 => Z_runV (rest := []) C hH (m_X4_thrown hl9 e1) wV_X0_170 c17 rfl (by decide) rfl rfl ⟨by decide, by decide⟩ rfl (Nat.le_of_ble_eq_true rfl) hl.1 dL_law_279) (fun v15 h16 H locs cells slots hH hL hrun => ?_)
  refine lv_iload (pc := 282) hx hb dL_law_282 (lv_at hl 1 rfl) ?_
  refine lv_icmp_eq (tgt := 289) (pc := 284) hx hb dL_law_284 (by decide) (fun c_ => ?_) (fun c_ => ?_)
  · have hrun := ite_t hrun c_
    refine lv_iload (pc := 289) hx hb dL_law_289 (lv_at hl 1 rfl) ?_
    refine lv_if_ne (tgt := 306) (pc := 291) hx hb dL_law_291 (by decide) (fun c_ => ?_) (fun c_ => ?_)
    · have hrun := ite_f hrun c_
      exact b_L_law_306 C hok hS K23 x0 x1 x2 x3 x4 h16 H locs cells slots ls hH hL (lv_sub hl [2, 3, 4, 5, 6] rfl) hrun
    · have hrun := ite_t hrun c_
      refine V_aload_n (pc := 294) hx hb dL_law_294 rfl (lv_at hl 5 rfl) ?_
      refine lv_iconst (v := (0 : Int32)) (pc := 295) hx hb dL_law_295 (by decide) ?_
      obtain ⟨c18, hrun⟩ := gd_some hrun
      refine V_lald (pc := 296) C hH dL_law_296 c18 ?_
      refine lv_iload (pc := 297) hx hb dL_law_297 (lv_at hl 0 rfl) ?_
      refine lv_i2l (pc := 299) hx hb dL_law_299 rfl ?_
      refine V_lcmp_eq (tgt := 306) (pc := 300) hx hb dL_law_300 dL_law_301 (by decide) (fun c_ => ?_) (fun c_ => ?_)
      · have hrun := ite_t hrun c_
        exact b_L_law_306 C hok hS K23 x0 x1 x2 x3 x4 h16 H locs cells slots ls hH hL (lv_sub hl [2, 3, 4, 5, 6] rfl) hrun
      · have hrun := ite_f hrun c_
        refine lv_iconst (v := (0 : Int32)) (pc := 304) hx hb dL_law_304 (by decide) ?_
        exact V_lawret (pc := 305) C hH hL hok hrun dL_law_305
  · have hrun := ite_f hrun c_
    refine lv_iconst (v := (0 : Int32)) (pc := 287) hx hb dL_law_287 (by decide) ?_
    exact V_lawret (pc := 288) C hH hL hok hrun dL_law_288

theorem b_L_law_398 {rr : (Int32 ⊕ Ex) × Hp} {k23 : Unit → Nat → Nat → Nat → Int32 → Hp → Rt Int32} {b L : Nat} {xs : Nat → Int32} {et9 : List (Nat × Nat × Nat × Nat)} (C : CX p l room_1 s m #[Value.ref b] meth c D s.heap cL_law "MassclaimLaw" 9 ret et9 8192 104096) (hok : rr.1 = .inl 1) (hS : va_X b L xs s s.heap ∧ b < s.heap.size) (K23 : ∀ (x0 : Unit) (x1 : Nat) (x2 : Nat) (x3 : Nat) (x4 : Int32) (h : Hp) (H : Heap) (locs : List Loc) (cells slots : Nat) (ls : Array Slot), HP D s.heap h H → LO s.heap locs → lv_has ls 9 [(0, .ref b), (1, rv x1), (2, rv x2), (3, rv x3), (4, .int x4)] → k23 x0 x1 x2 x3 x4 h = some rr → W p l e room_1 s m #[Value.ref b] below meth c H locs cells slots (lw_Z below #[Value.ref b] s) (F0 m 23 ls [])) : ∀ (x0 : Unit) (x1 : Nat) (x2 : Nat) (x3 : Nat) (x4 : Int32) (h : Hp) (H : Heap) (locs : List Loc) (cells slots : Nat) (ls : Array Slot), HP D s.heap h H → LO s.heap locs → lv_has ls 9 [(0, .ref b), (1, rv x1), (2, rv x2), (3, rv x3), (4, .int x4)] → f_L_law_398 L xs k23 x0 x1 x2 x3 x4 h = some rr → W p l e room_1 s m #[Value.ref b] below meth c H locs cells slots (lw_Z below #[Value.ref b] s) (F0 m 398 ls []) := by
  obtain ⟨⟨hx, hb, hml, hown, hts⟩, -⟩ := id C
  have hl9 := C.2.1.2.2.1
  intro x0 x1 x2 x3 x4 h H locs cells slots ls hH hL hl hrun
  unfold f_L_law_398 at hrun
  refine lv_goto (tgt := 3277) (pc := 398) hx hb dL_law_398 (by decide) ?_
  exact b_L_law_3277 C hok hS K23 x0 x1 x2 x3 x4 h H locs cells slots ls hH hL (lv_sub hl [0, 1, 2, 3, 4] rfl) hrun

theorem b_L_law_309 {rr : (Int32 ⊕ Ex) × Hp} {k23 : Unit → Nat → Nat → Nat → Int32 → Hp → Rt Int32} {b L : Nat} {xs : Nat → Int32} {et9 : List (Nat × Nat × Nat × Nat)} (C : CX p l room_1 s m #[Value.ref b] meth c D s.heap cL_law "MassclaimLaw" 9 ret et9 8192 104096) (hok : rr.1 = .inl 1) (hS : va_X b L xs s s.heap ∧ b < s.heap.size) (K23 : ∀ (x0 : Unit) (x1 : Nat) (x2 : Nat) (x3 : Nat) (x4 : Int32) (h : Hp) (H : Heap) (locs : List Loc) (cells slots : Nat) (ls : Array Slot), HP D s.heap h H → LO s.heap locs → lv_has ls 9 [(0, .ref b), (1, rv x1), (2, rv x2), (3, rv x3), (4, .int x4)] → k23 x0 x1 x2 x3 x4 h = some rr → W p l e room_1 s m #[Value.ref b] below meth c H locs cells slots (lw_Z below #[Value.ref b] s) (F0 m 23 ls [])) : ∀ (x0 : Unit) (x1 : Nat) (x2 : Nat) (x3 : Nat) (x4 : Int32) (h : Hp) (H : Heap) (locs : List Loc) (cells slots : Nat) (ls : Array Slot), HP D s.heap h H → LO s.heap locs → lv_has ls 9 [(0, .ref b), (1, rv x1), (2, rv x2), (3, rv x3), (4, .int x4)] → f_L_law_309 L xs k23 x0 x1 x2 x3 x4 h = some rr → W p l e room_1 s m #[Value.ref b] below meth c H locs cells slots (lw_Z below #[Value.ref b] s) (F0 m 309 ls []) := by
  obtain ⟨⟨hx, hb, hml, hown, hts⟩, -⟩ := id C
  have hl9 := C.2.1.2.2.1
  intro x0 x1 x2 x3 x4 h H locs cells slots ls hH hL hl hrun
  unfold f_L_law_309 at hrun
  refine V_aload_n (pc := 309) hx hb dL_law_309 rfl (lv_at hl 1 rfl) ?_
  refine lv_aload_n (pc := 310) hx hb dL_law_310 rfl (lv_at hl 0 rfl) ?_
  refine lv_iload (pc := 311) hx hb dL_law_311 (lv_at hl 4 rfl) ?_
  refine lv_iconst (v := (1 : Int32)) (pc := 313) hx hb dL_law_313 (by decide) ?_
  refine lv_iadd (pc := 314) hx hb dL_law_314 ?_
  obtain ⟨c19, hrun⟩ := gd_some hrun
  refine V_sld (pc := 315) C hH hS dL_law_315 c19 ?_
  refine lv_aload_n (pc := 316) hx hb dL_law_316 rfl (lv_at hl 0 rfl) ?_
  refine lv_iload (pc := 317) hx hb dL_law_317 (lv_at hl 4 rfl) ?_
  refine lv_iconst (v := (2 : Int32)) (pc := 319) hx hb dL_law_319 (by decide) ?_
  refine lv_iadd (pc := 320) hx hb dL_law_320 ?_
  obtain ⟨c20, hrun⟩ := gd_some hrun
  refine V_sld (pc := 321) C hH hS dL_law_321 c20 ?_
  refine lv_aload_n (pc := 322) hx hb dL_law_322 rfl (lv_at hl 0 rfl) ?_
  refine lv_iload (pc := 323) hx hb dL_law_323 (lv_at hl 4 rfl) ?_
  refine lv_iconst (v := (3 : Int32)) (pc := 325) hx hb dL_law_325 (by decide) ?_
  refine lv_iadd (pc := 326) hx hb dL_law_326 ?_
  obtain ⟨c21, hrun⟩ := gd_some hrun
  refine V_sld (pc := 327) C hH hS dL_law_327 c21 ?_
  refine lv_aload_n (pc := 328) hx hb dL_law_328 rfl (lv_at hl 0 rfl) ?_
  refine lv_iload (pc := 329) hx hb dL_law_329 (lv_at hl 4 rfl) ?_
  refine lv_iconst (v := (4 : Int32)) (pc := 331) hx hb dL_law_331 (by decide) ?_
  refine lv_iadd (pc := 332) hx hb dL_law_332 ?_
  obtain ⟨c22, hrun⟩ := gd_some hrun
  refine V_sld (pc := 333) C hH hS dL_law_333 c22 ?_
  refine V_aload_n (pc := 334) hx hb dL_law_334 rfl (lv_at hl 3 rfl) ?_
  refine V_bdN (pc := 335) hL hrun (fun rr1 e1 => Z_runSH (rest := []) C hH (m_X0_person hl9 e1) wSH_X0_173 rfl ⟨by decide, by decide⟩ rfl (Nat.le_of_ble_eq_true rfl) hl.1 dL_law_335) (fun v23 h24 H locs cells slots hH hL hrun => ?_)
  refine lv_istore (i := 5) (lv' := [(5, .int v23), (0, .ref b), (1, rv x1), (2, rv x2), (3, rv x3), (4, .int x4)]) (pc := 338) hx hb dL_law_338 hl (by decide) rfl (fun ls hl => ?_)
  refine V_aload_n (pc := 340) hx hb dL_law_340 rfl (lv_at hl 3 rfl) ?_
  refine lv_aload_n (pc := 341) hx hb dL_law_341 rfl (lv_at hl 1 rfl) ?_
  refine lv_iload (pc := 342) hx hb dL_law_342 (lv_at hl 5 rfl) ?_
  refine lv_iconst (v := (1 : Int32)) (pc := 344) hx hb dL_law_344 (by decide) ?_
  refine lv_iadd (pc := 345) hx hb dL_law_345 ?_
  obtain ⟨c25, hrun⟩ := gd_some hrun
  refine V_sld (pc := 346) C hH hS dL_law_346 c25 ?_
  refine lv_aload_n (pc := 347) hx hb dL_law_347 rfl (lv_at hl 1 rfl) ?_
  refine lv_iload (pc := 348) hx hb dL_law_348 (lv_at hl 5 rfl) ?_
  refine lv_iconst (v := (2 : Int32)) (pc := 350) hx hb dL_law_350 (by decide) ?_
  refine lv_iadd (pc := 351) hx hb dL_law_351 ?_
  obtain ⟨c26, hrun⟩ := gd_some hrun
  refine V_sld (pc := 352) C hH hS dL_law_352 c26 ?_
  refine lv_aload_n (pc := 353) hx hb dL_law_353 rfl (lv_at hl 1 rfl) ?_
  refine lv_iload (pc := 354) hx hb dL_law_354 (lv_at hl 5 rfl) ?_
  refine lv_iconst (v := (3 : Int32)) (pc := 356) hx hb dL_law_356 (by decide) ?_
  refine lv_iadd (pc := 357) hx hb dL_law_357 ?_
  obtain ⟨c27, hrun⟩ := gd_some hrun
  refine V_sld (pc := 358) C hH hS dL_law_358 c27 ?_
  refine lv_aload_n (pc := 359) hx hb dL_law_359 rfl (lv_at hl 1 rfl) ?_
  refine lv_iload (pc := 360) hx hb dL_law_360 (lv_at hl 5 rfl) ?_
  refine lv_iconst (v := (4 : Int32)) (pc := 362) hx hb dL_law_362 (by decide) ?_
  refine lv_iadd (pc := 363) hx hb dL_law_363 ?_
  obtain ⟨c28, hrun⟩ := gd_some hrun
  refine V_sld (pc := 364) C hH hS dL_law_364 c28 ?_
  obtain ⟨c31, hrun⟩ := gd_some hrun
  refine V_bdN (pc := 365) hL hrun (fun rr1 e1 => Z_runV (rest := []) C hH (m_X4_person hl9 e1) wV_X0_176 c31 rfl (by decide) rfl rfl ⟨by decide, by decide⟩ rfl (Nat.le_of_ble_eq_true rfl) hl.1 dL_law_365) (fun v29 h30 H locs cells slots hH hL hrun => ?_)
  refine lv_istore (i := 6) (lv' := [(6, .int v29), (5, .int v23), (0, .ref b), (1, rv x1), (2, rv x2), (3, rv x3), (4, .int x4)]) (pc := 368) hx hb dL_law_368 hl (by decide) rfl (fun ls hl => ?_)
  refine V_aload_n (pc := 370) hx hb dL_law_370 rfl (lv_at hl 4 rfl) ?_
  obtain ⟨c34, hrun⟩ := gd_some hrun
  refine V_bdN (pc := 371) hL hrun (fun rr1 e1 => Z_runV (rest := []) C hH (m_X4_thrown hl9 e1) wV_X0_170 c34 rfl (by decide) rfl rfl ⟨by decide, by decide⟩ rfl (Nat.le_of_ble_eq_true rfl) hl.1 dL_law_371) (fun v32 h33 H locs cells slots hH hL hrun => ?_)
  refine lv_iload (pc := 374) hx hb dL_law_374 (lv_at hl 1 rfl) ?_
  refine lv_icmp_eq (tgt := 381) (pc := 376) hx hb dL_law_376 (by decide) (fun c_ => ?_) (fun c_ => ?_)
  · have hrun := ite_t hrun c_
    refine lv_iload (pc := 381) hx hb dL_law_381 (lv_at hl 1 rfl) ?_
    refine lv_if_ne (tgt := 398) (pc := 383) hx hb dL_law_383 (by decide) (fun c_ => ?_) (fun c_ => ?_)
    · have hrun := ite_f hrun c_
      exact b_L_law_398 C hok hS K23 x0 x1 x2 x3 x4 h33 H locs cells slots ls hH hL (lv_sub hl [2, 3, 4, 5, 6] rfl) hrun
    · have hrun := ite_t hrun c_
      refine V_aload_n (pc := 386) hx hb dL_law_386 rfl (lv_at hl 5 rfl) ?_
      refine lv_iconst (v := (0 : Int32)) (pc := 387) hx hb dL_law_387 (by decide) ?_
      obtain ⟨c35, hrun⟩ := gd_some hrun
      refine V_lald (pc := 388) C hH dL_law_388 c35 ?_
      refine lv_iload (pc := 389) hx hb dL_law_389 (lv_at hl 0 rfl) ?_
      refine lv_i2l (pc := 391) hx hb dL_law_391 rfl ?_
      refine V_lcmp_eq (tgt := 398) (pc := 392) hx hb dL_law_392 dL_law_393 (by decide) (fun c_ => ?_) (fun c_ => ?_)
      · have hrun := ite_t hrun c_
        exact b_L_law_398 C hok hS K23 x0 x1 x2 x3 x4 h33 H locs cells slots ls hH hL (lv_sub hl [2, 3, 4, 5, 6] rfl) hrun
      · have hrun := ite_f hrun c_
        refine lv_iconst (v := (0 : Int32)) (pc := 396) hx hb dL_law_396 (by decide) ?_
        exact V_lawret (pc := 397) C hH hL hok hrun dL_law_397
  · have hrun := ite_f hrun c_
    refine lv_iconst (v := (0 : Int32)) (pc := 379) hx hb dL_law_379 (by decide) ?_
    exact V_lawret (pc := 380) C hH hL hok hrun dL_law_380

theorem b_L_law_466 {rr : (Int32 ⊕ Ex) × Hp} {k23 : Unit → Nat → Nat → Nat → Int32 → Hp → Rt Int32} {b L : Nat} {xs : Nat → Int32} {et9 : List (Nat × Nat × Nat × Nat)} (C : CX p l room_1 s m #[Value.ref b] meth c D s.heap cL_law "MassclaimLaw" 9 ret et9 8192 104096) (hok : rr.1 = .inl 1) (hS : va_X b L xs s s.heap ∧ b < s.heap.size) (K23 : ∀ (x0 : Unit) (x1 : Nat) (x2 : Nat) (x3 : Nat) (x4 : Int32) (h : Hp) (H : Heap) (locs : List Loc) (cells slots : Nat) (ls : Array Slot), HP D s.heap h H → LO s.heap locs → lv_has ls 9 [(0, .ref b), (1, rv x1), (2, rv x2), (3, rv x3), (4, .int x4)] → k23 x0 x1 x2 x3 x4 h = some rr → W p l e room_1 s m #[Value.ref b] below meth c H locs cells slots (lw_Z below #[Value.ref b] s) (F0 m 23 ls [])) : ∀ (x0 : Unit) (x1 : Nat) (x2 : Nat) (x3 : Nat) (x4 : Int32) (h : Hp) (H : Heap) (locs : List Loc) (cells slots : Nat) (ls : Array Slot), HP D s.heap h H → LO s.heap locs → lv_has ls 9 [(0, .ref b), (1, rv x1), (2, rv x2), (3, rv x3), (4, .int x4)] → f_L_law_466 L xs k23 x0 x1 x2 x3 x4 h = some rr → W p l e room_1 s m #[Value.ref b] below meth c H locs cells slots (lw_Z below #[Value.ref b] s) (F0 m 466 ls []) := by
  obtain ⟨⟨hx, hb, hml, hown, hts⟩, -⟩ := id C
  have hl9 := C.2.1.2.2.1
  intro x0 x1 x2 x3 x4 h H locs cells slots ls hH hL hl hrun
  unfold f_L_law_466 at hrun
  refine lv_goto (tgt := 3277) (pc := 466) hx hb dL_law_466 (by decide) ?_
  exact b_L_law_3277 C hok hS K23 x0 x1 x2 x3 x4 h H locs cells slots ls hH hL (lv_sub hl [0, 1, 2, 3, 4] rfl) hrun

theorem b_L_law_401 {rr : (Int32 ⊕ Ex) × Hp} {k23 : Unit → Nat → Nat → Nat → Int32 → Hp → Rt Int32} {b L : Nat} {xs : Nat → Int32} {et9 : List (Nat × Nat × Nat × Nat)} (C : CX p l room_1 s m #[Value.ref b] meth c D s.heap cL_law "MassclaimLaw" 9 ret et9 8192 104096) (hok : rr.1 = .inl 1) (hS : va_X b L xs s s.heap ∧ b < s.heap.size) (K23 : ∀ (x0 : Unit) (x1 : Nat) (x2 : Nat) (x3 : Nat) (x4 : Int32) (h : Hp) (H : Heap) (locs : List Loc) (cells slots : Nat) (ls : Array Slot), HP D s.heap h H → LO s.heap locs → lv_has ls 9 [(0, .ref b), (1, rv x1), (2, rv x2), (3, rv x3), (4, .int x4)] → k23 x0 x1 x2 x3 x4 h = some rr → W p l e room_1 s m #[Value.ref b] below meth c H locs cells slots (lw_Z below #[Value.ref b] s) (F0 m 23 ls [])) : ∀ (x0 : Unit) (x1 : Nat) (x2 : Nat) (x3 : Nat) (x4 : Int32) (h : Hp) (H : Heap) (locs : List Loc) (cells slots : Nat) (ls : Array Slot), HP D s.heap h H → LO s.heap locs → lv_has ls 9 [(0, .ref b), (1, rv x1), (2, rv x2), (3, rv x3), (4, .int x4)] → f_L_law_401 L xs k23 x0 x1 x2 x3 x4 h = some rr → W p l e room_1 s m #[Value.ref b] below meth c H locs cells slots (lw_Z below #[Value.ref b] s) (F0 m 401 ls []) := by
  obtain ⟨⟨hx, hb, hml, hown, hts⟩, -⟩ := id C
  have hl9 := C.2.1.2.2.1
  intro x0 x1 x2 x3 x4 h H locs cells slots ls hH hL hl hrun
  unfold f_L_law_401 at hrun
  refine V_aload_n (pc := 401) hx hb dL_law_401 rfl (lv_at hl 1 rfl) ?_
  refine lv_aload_n (pc := 402) hx hb dL_law_402 rfl (lv_at hl 0 rfl) ?_
  refine lv_iload (pc := 403) hx hb dL_law_403 (lv_at hl 4 rfl) ?_
  refine lv_iconst (v := (1 : Int32)) (pc := 405) hx hb dL_law_405 (by decide) ?_
  refine lv_iadd (pc := 406) hx hb dL_law_406 ?_
  obtain ⟨c36, hrun⟩ := gd_some hrun
  refine V_sld (pc := 407) C hH hS dL_law_407 c36 ?_
  refine lv_aload_n (pc := 408) hx hb dL_law_408 rfl (lv_at hl 0 rfl) ?_
  refine lv_iload (pc := 409) hx hb dL_law_409 (lv_at hl 4 rfl) ?_
  refine lv_iconst (v := (2 : Int32)) (pc := 411) hx hb dL_law_411 (by decide) ?_
  refine lv_iadd (pc := 412) hx hb dL_law_412 ?_
  obtain ⟨c37, hrun⟩ := gd_some hrun
  refine V_sld (pc := 413) C hH hS dL_law_413 c37 ?_
  refine V_aload_n (pc := 414) hx hb dL_law_414 rfl (lv_at hl 3 rfl) ?_
  refine V_bdN (pc := 415) hL hrun (fun rr1 e1 => Z_runSH (rest := []) C hH (m_X0_sick hl9 e1) wSH_X0_177 rfl ⟨by decide, by decide⟩ rfl (Nat.le_of_ble_eq_true rfl) hl.1 dL_law_415) (fun v38 h39 H locs cells slots hH hL hrun => ?_)
  refine lv_istore (i := 5) (lv' := [(5, .int v38), (0, .ref b), (1, rv x1), (2, rv x2), (3, rv x3), (4, .int x4)]) (pc := 418) hx hb dL_law_418 hl (by decide) rfl (fun ls hl => ?_)
  refine V_aload_n (pc := 420) hx hb dL_law_420 rfl (lv_at hl 3 rfl) ?_
  refine lv_aload_n (pc := 421) hx hb dL_law_421 rfl (lv_at hl 1 rfl) ?_
  refine lv_iload (pc := 422) hx hb dL_law_422 (lv_at hl 5 rfl) ?_
  refine lv_iconst (v := (1 : Int32)) (pc := 424) hx hb dL_law_424 (by decide) ?_
  refine lv_iadd (pc := 425) hx hb dL_law_425 ?_
  obtain ⟨c40, hrun⟩ := gd_some hrun
  refine V_sld (pc := 426) C hH hS dL_law_426 c40 ?_
  refine lv_aload_n (pc := 427) hx hb dL_law_427 rfl (lv_at hl 1 rfl) ?_
  refine lv_iload (pc := 428) hx hb dL_law_428 (lv_at hl 5 rfl) ?_
  refine lv_iconst (v := (2 : Int32)) (pc := 430) hx hb dL_law_430 (by decide) ?_
  refine lv_iadd (pc := 431) hx hb dL_law_431 ?_
  obtain ⟨c41, hrun⟩ := gd_some hrun
  refine V_sld (pc := 432) C hH hS dL_law_432 c41 ?_
  obtain ⟨c44, hrun⟩ := gd_some hrun
  refine V_bdN (pc := 433) hL hrun (fun rr1 e1 => Z_runV (rest := []) C hH (m_X4_sick hl9 e1) wV_X0_180 c44 rfl (by decide) rfl rfl ⟨by decide, by decide⟩ rfl (Nat.le_of_ble_eq_true rfl) hl.1 dL_law_433) (fun v42 h43 H locs cells slots hH hL hrun => ?_)
  refine lv_istore (i := 6) (lv' := [(6, .int v42), (5, .int v38), (0, .ref b), (1, rv x1), (2, rv x2), (3, rv x3), (4, .int x4)]) (pc := 436) hx hb dL_law_436 hl (by decide) rfl (fun ls hl => ?_)
  refine V_aload_n (pc := 438) hx hb dL_law_438 rfl (lv_at hl 4 rfl) ?_
  obtain ⟨c47, hrun⟩ := gd_some hrun
  refine V_bdN (pc := 439) hL hrun (fun rr1 e1 => Z_runV (rest := []) C hH (m_X4_thrown hl9 e1) wV_X0_170 c47 rfl (by decide) rfl rfl ⟨by decide, by decide⟩ rfl (Nat.le_of_ble_eq_true rfl) hl.1 dL_law_439) (fun v45 h46 H locs cells slots hH hL hrun => ?_)
  refine lv_iload (pc := 442) hx hb dL_law_442 (lv_at hl 1 rfl) ?_
  refine lv_icmp_eq (tgt := 449) (pc := 444) hx hb dL_law_444 (by decide) (fun c_ => ?_) (fun c_ => ?_)
  · have hrun := ite_t hrun c_
    refine lv_iload (pc := 449) hx hb dL_law_449 (lv_at hl 1 rfl) ?_
    refine lv_if_ne (tgt := 466) (pc := 451) hx hb dL_law_451 (by decide) (fun c_ => ?_) (fun c_ => ?_)
    · have hrun := ite_f hrun c_
      exact b_L_law_466 C hok hS K23 x0 x1 x2 x3 x4 h46 H locs cells slots ls hH hL (lv_sub hl [2, 3, 4, 5, 6] rfl) hrun
    · have hrun := ite_t hrun c_
      refine V_aload_n (pc := 454) hx hb dL_law_454 rfl (lv_at hl 5 rfl) ?_
      refine lv_iconst (v := (0 : Int32)) (pc := 455) hx hb dL_law_455 (by decide) ?_
      obtain ⟨c48, hrun⟩ := gd_some hrun
      refine V_lald (pc := 456) C hH dL_law_456 c48 ?_
      refine lv_iload (pc := 457) hx hb dL_law_457 (lv_at hl 0 rfl) ?_
      refine lv_i2l (pc := 459) hx hb dL_law_459 rfl ?_
      refine V_lcmp_eq (tgt := 466) (pc := 460) hx hb dL_law_460 dL_law_461 (by decide) (fun c_ => ?_) (fun c_ => ?_)
      · have hrun := ite_t hrun c_
        exact b_L_law_466 C hok hS K23 x0 x1 x2 x3 x4 h46 H locs cells slots ls hH hL (lv_sub hl [2, 3, 4, 5, 6] rfl) hrun
      · have hrun := ite_f hrun c_
        refine lv_iconst (v := (0 : Int32)) (pc := 464) hx hb dL_law_464 (by decide) ?_
        exact V_lawret (pc := 465) C hH hL hok hrun dL_law_465
  · have hrun := ite_f hrun c_
    refine lv_iconst (v := (0 : Int32)) (pc := 447) hx hb dL_law_447 (by decide) ?_
    exact V_lawret (pc := 448) C hH hL hok hrun dL_law_448

theorem b_L_law_533 {rr : (Int32 ⊕ Ex) × Hp} {k23 : Unit → Nat → Nat → Nat → Int32 → Hp → Rt Int32} {b L : Nat} {xs : Nat → Int32} {et9 : List (Nat × Nat × Nat × Nat)} (C : CX p l room_1 s m #[Value.ref b] meth c D s.heap cL_law "MassclaimLaw" 9 ret et9 8192 104096) (hok : rr.1 = .inl 1) (hS : va_X b L xs s s.heap ∧ b < s.heap.size) (K23 : ∀ (x0 : Unit) (x1 : Nat) (x2 : Nat) (x3 : Nat) (x4 : Int32) (h : Hp) (H : Heap) (locs : List Loc) (cells slots : Nat) (ls : Array Slot), HP D s.heap h H → LO s.heap locs → lv_has ls 9 [(0, .ref b), (1, rv x1), (2, rv x2), (3, rv x3), (4, .int x4)] → k23 x0 x1 x2 x3 x4 h = some rr → W p l e room_1 s m #[Value.ref b] below meth c H locs cells slots (lw_Z below #[Value.ref b] s) (F0 m 23 ls [])) : ∀ (x0 : Unit) (x1 : Nat) (x2 : Nat) (x3 : Nat) (x4 : Int32) (h : Hp) (H : Heap) (locs : List Loc) (cells slots : Nat) (ls : Array Slot), HP D s.heap h H → LO s.heap locs → lv_has ls 9 [(0, .ref b), (1, rv x1), (2, rv x2), (3, rv x3), (4, .int x4)] → f_L_law_533 L xs k23 x0 x1 x2 x3 x4 h = some rr → W p l e room_1 s m #[Value.ref b] below meth c H locs cells slots (lw_Z below #[Value.ref b] s) (F0 m 533 ls []) := by
  obtain ⟨⟨hx, hb, hml, hown, hts⟩, -⟩ := id C
  have hl9 := C.2.1.2.2.1
  intro x0 x1 x2 x3 x4 h H locs cells slots ls hH hL hl hrun
  unfold f_L_law_533 at hrun
  refine lv_goto (tgt := 3277) (pc := 533) hx hb dL_law_533 (by decide) ?_
  exact b_L_law_3277 C hok hS K23 x0 x1 x2 x3 x4 h H locs cells slots ls hH hL (lv_sub hl [0, 1, 2, 3, 4] rfl) hrun

theorem b_L_law_469 {rr : (Int32 ⊕ Ex) × Hp} {k23 : Unit → Nat → Nat → Nat → Int32 → Hp → Rt Int32} {b L : Nat} {xs : Nat → Int32} {et9 : List (Nat × Nat × Nat × Nat)} (C : CX p l room_1 s m #[Value.ref b] meth c D s.heap cL_law "MassclaimLaw" 9 ret et9 8192 104096) (hok : rr.1 = .inl 1) (hS : va_X b L xs s s.heap ∧ b < s.heap.size) (K23 : ∀ (x0 : Unit) (x1 : Nat) (x2 : Nat) (x3 : Nat) (x4 : Int32) (h : Hp) (H : Heap) (locs : List Loc) (cells slots : Nat) (ls : Array Slot), HP D s.heap h H → LO s.heap locs → lv_has ls 9 [(0, .ref b), (1, rv x1), (2, rv x2), (3, rv x3), (4, .int x4)] → k23 x0 x1 x2 x3 x4 h = some rr → W p l e room_1 s m #[Value.ref b] below meth c H locs cells slots (lw_Z below #[Value.ref b] s) (F0 m 23 ls [])) : ∀ (x0 : Unit) (x1 : Nat) (x2 : Nat) (x3 : Nat) (x4 : Int32) (h : Hp) (H : Heap) (locs : List Loc) (cells slots : Nat) (ls : Array Slot), HP D s.heap h H → LO s.heap locs → lv_has ls 9 [(0, .ref b), (1, rv x1), (2, rv x2), (3, rv x3), (4, .int x4)] → f_L_law_469 L xs k23 x0 x1 x2 x3 x4 h = some rr → W p l e room_1 s m #[Value.ref b] below meth c H locs cells slots (lw_Z below #[Value.ref b] s) (F0 m 469 ls []) := by
  obtain ⟨⟨hx, hb, hml, hown, hts⟩, -⟩ := id C
  have hl9 := C.2.1.2.2.1
  intro x0 x1 x2 x3 x4 h H locs cells slots ls hH hL hl hrun
  unfold f_L_law_469 at hrun
  refine V_aload_n (pc := 469) hx hb dL_law_469 rfl (lv_at hl 1 rfl) ?_
  refine lv_aload_n (pc := 470) hx hb dL_law_470 rfl (lv_at hl 0 rfl) ?_
  refine lv_iload (pc := 471) hx hb dL_law_471 (lv_at hl 4 rfl) ?_
  refine lv_iconst (v := (1 : Int32)) (pc := 473) hx hb dL_law_473 (by decide) ?_
  refine lv_iadd (pc := 474) hx hb dL_law_474 ?_
  obtain ⟨c49, hrun⟩ := gd_some hrun
  refine V_sld (pc := 475) C hH hS dL_law_475 c49 ?_
  refine lv_aload_n (pc := 476) hx hb dL_law_476 rfl (lv_at hl 0 rfl) ?_
  refine lv_iload (pc := 477) hx hb dL_law_477 (lv_at hl 4 rfl) ?_
  refine lv_iconst (v := (2 : Int32)) (pc := 479) hx hb dL_law_479 (by decide) ?_
  refine lv_iadd (pc := 480) hx hb dL_law_480 ?_
  obtain ⟨c50, hrun⟩ := gd_some hrun
  refine V_sld (pc := 481) C hH hS dL_law_481 c50 ?_
  refine V_aload_n (pc := 482) hx hb dL_law_482 rfl (lv_at hl 3 rfl) ?_
  refine V_bdN (pc := 483) hL hrun (fun rr1 e1 => Z_runSH (rest := []) C hH (m_X0_die hl9 e1) wSH_X0_181 rfl ⟨by decide, by decide⟩ rfl (Nat.le_of_ble_eq_true rfl) hl.1 dL_law_483) (fun v51 h52 H locs cells slots hH hL hrun => ?_)
  refine lv_istore (i := 5) (lv' := [(5, .int v51), (0, .ref b), (1, rv x1), (2, rv x2), (3, rv x3), (4, .int x4)]) (pc := 486) hx hb dL_law_486 hl (by decide) rfl (fun ls hl => ?_)
  refine V_aload_n (pc := 488) hx hb dL_law_488 rfl (lv_at hl 3 rfl) ?_
  refine lv_aload_n (pc := 489) hx hb dL_law_489 rfl (lv_at hl 1 rfl) ?_
  refine lv_iload (pc := 490) hx hb dL_law_490 (lv_at hl 5 rfl) ?_
  refine lv_iconst (v := (1 : Int32)) (pc := 492) hx hb dL_law_492 (by decide) ?_
  refine lv_iadd (pc := 493) hx hb dL_law_493 ?_
  obtain ⟨c53, hrun⟩ := gd_some hrun
  refine V_sld (pc := 494) C hH hS dL_law_494 c53 ?_
  refine lv_aload_n (pc := 495) hx hb dL_law_495 rfl (lv_at hl 1 rfl) ?_
  refine lv_iload (pc := 496) hx hb dL_law_496 (lv_at hl 5 rfl) ?_
  refine lv_iconst (v := (2 : Int32)) (pc := 498) hx hb dL_law_498 (by decide) ?_
  refine lv_iadd (pc := 499) hx hb dL_law_499 ?_
  obtain ⟨c54, hrun⟩ := gd_some hrun
  refine V_sld (pc := 500) C hH hS dL_law_500 c54 ?_
  obtain ⟨c57, hrun⟩ := gd_some hrun
  refine V_bdN (pc := 501) hL hrun (fun rr1 e1 => Z_runV (rest := []) C hH (m_X4_die hl9 e1) wV_X0_183 c57 rfl (by decide) rfl rfl ⟨by decide, by decide⟩ rfl (Nat.le_of_ble_eq_true rfl) hl.1 dL_law_501) (fun v55 h56 H locs cells slots hH hL hrun => ?_)
  refine lv_lstore (i := 6) (lv' := [(6, .long v55), (5, .int v51), (0, .ref b), (1, rv x1), (2, rv x2), (3, rv x3), (4, .int x4)]) (pc := 504) hx hb dL_law_504 hl (by decide) rfl (fun ls hl => ?_)
  refine V_aload_n (pc := 506) hx hb dL_law_506 rfl (lv_at hl 4 rfl) ?_
  obtain ⟨c60, hrun⟩ := gd_some hrun
  refine V_bdN (pc := 507) hL hrun (fun rr1 e1 => Z_runV (rest := []) C hH (m_X4_thrown hl9 e1) wV_X0_170 c60 rfl (by decide) rfl rfl ⟨by decide, by decide⟩ rfl (Nat.le_of_ble_eq_true rfl) hl.1 dL_law_507) (fun v58 h59 H locs cells slots hH hL hrun => ?_)
  refine lv_iload (pc := 510) hx hb dL_law_510 (lv_at hl 1 rfl) ?_
  refine lv_icmp_eq (tgt := 517) (pc := 512) hx hb dL_law_512 (by decide) (fun c_ => ?_) (fun c_ => ?_)
  · have hrun := ite_t hrun c_
    refine lv_iload (pc := 517) hx hb dL_law_517 (lv_at hl 1 rfl) ?_
    refine lv_if_ne (tgt := 533) (pc := 519) hx hb dL_law_519 (by decide) (fun c_ => ?_) (fun c_ => ?_)
    · have hrun := ite_f hrun c_
      exact b_L_law_533 C hok hS K23 x0 x1 x2 x3 x4 h59 H locs cells slots ls hH hL (lv_sub hl [2, 3, 4, 5, 6] rfl) hrun
    · have hrun := ite_t hrun c_
      refine V_aload_n (pc := 522) hx hb dL_law_522 rfl (lv_at hl 5 rfl) ?_
      refine lv_iconst (v := (0 : Int32)) (pc := 523) hx hb dL_law_523 (by decide) ?_
      obtain ⟨c61, hrun⟩ := gd_some hrun
      refine V_lald (pc := 524) C hH dL_law_524 c61 ?_
      refine lv_lload (pc := 525) hx hb dL_law_525 (lv_at hl 0 rfl) ?_
      refine V_lcmp_eq (tgt := 533) (pc := 527) hx hb dL_law_527 dL_law_528 (by decide) (fun c_ => ?_) (fun c_ => ?_)
      · have hrun := ite_t hrun c_
        exact b_L_law_533 C hok hS K23 x0 x1 x2 x3 x4 h59 H locs cells slots ls hH hL (lv_sub hl [2, 3, 4, 5, 6] rfl) hrun
      · have hrun := ite_f hrun c_
        refine lv_iconst (v := (0 : Int32)) (pc := 531) hx hb dL_law_531 (by decide) ?_
        exact V_lawret (pc := 532) C hH hL hok hrun dL_law_532
  · have hrun := ite_f hrun c_
    refine lv_iconst (v := (0 : Int32)) (pc := 515) hx hb dL_law_515 (by decide) ?_
    exact V_lawret (pc := 516) C hH hL hok hrun dL_law_516

theorem b_L_law_613 {rr : (Int32 ⊕ Ex) × Hp} {k23 : Unit → Nat → Nat → Nat → Int32 → Hp → Rt Int32} {b L : Nat} {xs : Nat → Int32} {et9 : List (Nat × Nat × Nat × Nat)} (C : CX p l room_1 s m #[Value.ref b] meth c D s.heap cL_law "MassclaimLaw" 9 ret et9 8192 104096) (hok : rr.1 = .inl 1) (hS : va_X b L xs s s.heap ∧ b < s.heap.size) (K23 : ∀ (x0 : Unit) (x1 : Nat) (x2 : Nat) (x3 : Nat) (x4 : Int32) (h : Hp) (H : Heap) (locs : List Loc) (cells slots : Nat) (ls : Array Slot), HP D s.heap h H → LO s.heap locs → lv_has ls 9 [(0, .ref b), (1, rv x1), (2, rv x2), (3, rv x3), (4, .int x4)] → k23 x0 x1 x2 x3 x4 h = some rr → W p l e room_1 s m #[Value.ref b] below meth c H locs cells slots (lw_Z below #[Value.ref b] s) (F0 m 23 ls [])) : ∀ (x0 : Unit) (x1 : Nat) (x2 : Nat) (x3 : Nat) (x4 : Int32) (h : Hp) (H : Heap) (locs : List Loc) (cells slots : Nat) (ls : Array Slot), HP D s.heap h H → LO s.heap locs → lv_has ls 9 [(0, .ref b), (1, rv x1), (2, rv x2), (3, rv x3), (4, .int x4)] → f_L_law_613 L xs k23 x0 x1 x2 x3 x4 h = some rr → W p l e room_1 s m #[Value.ref b] below meth c H locs cells slots (lw_Z below #[Value.ref b] s) (F0 m 613 ls []) := by
  obtain ⟨⟨hx, hb, hml, hown, hts⟩, -⟩ := id C
  have hl9 := C.2.1.2.2.1
  intro x0 x1 x2 x3 x4 h H locs cells slots ls hH hL hl hrun
  unfold f_L_law_613 at hrun
  refine lv_goto (tgt := 3277) (pc := 613) hx hb dL_law_613 (by decide) ?_
  exact b_L_law_3277 C hok hS K23 x0 x1 x2 x3 x4 h H locs cells slots ls hH hL (lv_sub hl [0, 1, 2, 3, 4] rfl) hrun

theorem b_L_law_536 {rr : (Int32 ⊕ Ex) × Hp} {k23 : Unit → Nat → Nat → Nat → Int32 → Hp → Rt Int32} {b L : Nat} {xs : Nat → Int32} {et9 : List (Nat × Nat × Nat × Nat)} (C : CX p l room_1 s m #[Value.ref b] meth c D s.heap cL_law "MassclaimLaw" 9 ret et9 8192 104096) (hok : rr.1 = .inl 1) (hS : va_X b L xs s s.heap ∧ b < s.heap.size) (K23 : ∀ (x0 : Unit) (x1 : Nat) (x2 : Nat) (x3 : Nat) (x4 : Int32) (h : Hp) (H : Heap) (locs : List Loc) (cells slots : Nat) (ls : Array Slot), HP D s.heap h H → LO s.heap locs → lv_has ls 9 [(0, .ref b), (1, rv x1), (2, rv x2), (3, rv x3), (4, .int x4)] → k23 x0 x1 x2 x3 x4 h = some rr → W p l e room_1 s m #[Value.ref b] below meth c H locs cells slots (lw_Z below #[Value.ref b] s) (F0 m 23 ls [])) : ∀ (x0 : Unit) (x1 : Nat) (x2 : Nat) (x3 : Nat) (x4 : Int32) (h : Hp) (H : Heap) (locs : List Loc) (cells slots : Nat) (ls : Array Slot), HP D s.heap h H → LO s.heap locs → lv_has ls 9 [(0, .ref b), (1, rv x1), (2, rv x2), (3, rv x3), (4, .int x4)] → f_L_law_536 L xs k23 x0 x1 x2 x3 x4 h = some rr → W p l e room_1 s m #[Value.ref b] below meth c H locs cells slots (lw_Z below #[Value.ref b] s) (F0 m 536 ls []) := by
  obtain ⟨⟨hx, hb, hml, hown, hts⟩, -⟩ := id C
  have hl9 := C.2.1.2.2.1
  intro x0 x1 x2 x3 x4 h H locs cells slots ls hH hL hl hrun
  unfold f_L_law_536 at hrun
  refine V_aload_n (pc := 536) hx hb dL_law_536 rfl (lv_at hl 1 rfl) ?_
  refine lv_aload_n (pc := 537) hx hb dL_law_537 rfl (lv_at hl 0 rfl) ?_
  refine lv_iload (pc := 538) hx hb dL_law_538 (lv_at hl 4 rfl) ?_
  refine lv_iconst (v := (1 : Int32)) (pc := 540) hx hb dL_law_540 (by decide) ?_
  refine lv_iadd (pc := 541) hx hb dL_law_541 ?_
  obtain ⟨c62, hrun⟩ := gd_some hrun
  refine V_sld (pc := 542) C hH hS dL_law_542 c62 ?_
  refine lv_aload_n (pc := 543) hx hb dL_law_543 rfl (lv_at hl 0 rfl) ?_
  refine lv_iload (pc := 544) hx hb dL_law_544 (lv_at hl 4 rfl) ?_
  refine lv_iconst (v := (2 : Int32)) (pc := 546) hx hb dL_law_546 (by decide) ?_
  refine lv_iadd (pc := 547) hx hb dL_law_547 ?_
  obtain ⟨c63, hrun⟩ := gd_some hrun
  refine V_sld (pc := 548) C hH hS dL_law_548 c63 ?_
  refine lv_aload_n (pc := 549) hx hb dL_law_549 rfl (lv_at hl 0 rfl) ?_
  refine lv_iload (pc := 550) hx hb dL_law_550 (lv_at hl 4 rfl) ?_
  refine lv_iconst (v := (3 : Int32)) (pc := 552) hx hb dL_law_552 (by decide) ?_
  refine lv_iadd (pc := 553) hx hb dL_law_553 ?_
  obtain ⟨c64, hrun⟩ := gd_some hrun
  refine V_sld (pc := 554) C hH hS dL_law_554 c64 ?_
  refine V_aload_n (pc := 555) hx hb dL_law_555 rfl (lv_at hl 3 rfl) ?_
  refine V_bdN (pc := 556) hL hrun (fun rr1 e1 => Z_runSH (rest := []) C hH (m_X0_define hl9 e1) wSH_X0_184 rfl ⟨by decide, by decide⟩ rfl (Nat.le_of_ble_eq_true rfl) hl.1 dL_law_556) (fun v65 h66 H locs cells slots hH hL hrun => ?_)
  refine lv_istore (i := 5) (lv' := [(5, .int v65), (0, .ref b), (1, rv x1), (2, rv x2), (3, rv x3), (4, .int x4)]) (pc := 559) hx hb dL_law_559 hl (by decide) rfl (fun ls hl => ?_)
  refine V_aload_n (pc := 561) hx hb dL_law_561 rfl (lv_at hl 3 rfl) ?_
  refine lv_aload_n (pc := 562) hx hb dL_law_562 rfl (lv_at hl 1 rfl) ?_
  refine lv_iload (pc := 563) hx hb dL_law_563 (lv_at hl 5 rfl) ?_
  refine lv_iconst (v := (1 : Int32)) (pc := 565) hx hb dL_law_565 (by decide) ?_
  refine lv_iadd (pc := 566) hx hb dL_law_566 ?_
  obtain ⟨c67, hrun⟩ := gd_some hrun
  refine V_sld (pc := 567) C hH hS dL_law_567 c67 ?_
  refine lv_aload_n (pc := 568) hx hb dL_law_568 rfl (lv_at hl 1 rfl) ?_
  refine lv_iload (pc := 569) hx hb dL_law_569 (lv_at hl 5 rfl) ?_
  refine lv_iconst (v := (2 : Int32)) (pc := 571) hx hb dL_law_571 (by decide) ?_
  refine lv_iadd (pc := 572) hx hb dL_law_572 ?_
  obtain ⟨c68, hrun⟩ := gd_some hrun
  refine V_sld (pc := 573) C hH hS dL_law_573 c68 ?_
  refine lv_aload_n (pc := 574) hx hb dL_law_574 rfl (lv_at hl 1 rfl) ?_
  refine lv_iload (pc := 575) hx hb dL_law_575 (lv_at hl 5 rfl) ?_
  refine lv_iconst (v := (3 : Int32)) (pc := 577) hx hb dL_law_577 (by decide) ?_
  refine lv_iadd (pc := 578) hx hb dL_law_578 ?_
  obtain ⟨c69, hrun⟩ := gd_some hrun
  refine V_sld (pc := 579) C hH hS dL_law_579 c69 ?_
  obtain ⟨c72, hrun⟩ := gd_some hrun
  refine V_bdN (pc := 580) hL hrun (fun rr1 e1 => Z_runV (rest := []) C hH (m_X4_define hl9 e1) wV_X0_187 c72 rfl (by decide) rfl rfl ⟨by decide, by decide⟩ rfl (Nat.le_of_ble_eq_true rfl) hl.1 dL_law_580) (fun v70 h71 H locs cells slots hH hL hrun => ?_)
  refine lv_istore (i := 6) (lv' := [(6, .int v70), (5, .int v65), (0, .ref b), (1, rv x1), (2, rv x2), (3, rv x3), (4, .int x4)]) (pc := 583) hx hb dL_law_583 hl (by decide) rfl (fun ls hl => ?_)
  refine V_aload_n (pc := 585) hx hb dL_law_585 rfl (lv_at hl 4 rfl) ?_
  obtain ⟨c75, hrun⟩ := gd_some hrun
  refine V_bdN (pc := 586) hL hrun (fun rr1 e1 => Z_runV (rest := []) C hH (m_X4_thrown hl9 e1) wV_X0_170 c75 rfl (by decide) rfl rfl ⟨by decide, by decide⟩ rfl (Nat.le_of_ble_eq_true rfl) hl.1 dL_law_586) (fun v73 h74 H locs cells slots hH hL hrun => ?_)
  refine lv_iload (pc := 589) hx hb dL_law_589 (lv_at hl 1 rfl) ?_
  refine lv_icmp_eq (tgt := 596) (pc := 591) hx hb dL_law_591 (by decide) (fun c_ => ?_) (fun c_ => ?_)
  · have hrun := ite_t hrun c_
    refine lv_iload (pc := 596) hx hb dL_law_596 (lv_at hl 1 rfl) ?_
    refine lv_if_ne (tgt := 613) (pc := 598) hx hb dL_law_598 (by decide) (fun c_ => ?_) (fun c_ => ?_)
    · have hrun := ite_f hrun c_
      exact b_L_law_613 C hok hS K23 x0 x1 x2 x3 x4 h74 H locs cells slots ls hH hL (lv_sub hl [2, 3, 4, 5, 6] rfl) hrun
    · have hrun := ite_t hrun c_
      refine V_aload_n (pc := 601) hx hb dL_law_601 rfl (lv_at hl 5 rfl) ?_
      refine lv_iconst (v := (0 : Int32)) (pc := 602) hx hb dL_law_602 (by decide) ?_
      obtain ⟨c76, hrun⟩ := gd_some hrun
      refine V_lald (pc := 603) C hH dL_law_603 c76 ?_
      refine lv_iload (pc := 604) hx hb dL_law_604 (lv_at hl 0 rfl) ?_
      refine lv_i2l (pc := 606) hx hb dL_law_606 rfl ?_
      refine V_lcmp_eq (tgt := 613) (pc := 607) hx hb dL_law_607 dL_law_608 (by decide) (fun c_ => ?_) (fun c_ => ?_)
      · have hrun := ite_t hrun c_
        exact b_L_law_613 C hok hS K23 x0 x1 x2 x3 x4 h74 H locs cells slots ls hH hL (lv_sub hl [2, 3, 4, 5, 6] rfl) hrun
      · have hrun := ite_f hrun c_
        refine lv_iconst (v := (0 : Int32)) (pc := 611) hx hb dL_law_611 (by decide) ?_
        exact V_lawret (pc := 612) C hH hL hok hrun dL_law_612
  · have hrun := ite_f hrun c_
    refine lv_iconst (v := (0 : Int32)) (pc := 594) hx hb dL_law_594 (by decide) ?_
    exact V_lawret (pc := 595) C hH hL hok hrun dL_law_595

theorem b_L_law_709 {rr : (Int32 ⊕ Ex) × Hp} {k23 : Unit → Nat → Nat → Nat → Int32 → Hp → Rt Int32} {b L : Nat} {xs : Nat → Int32} {et9 : List (Nat × Nat × Nat × Nat)} (C : CX p l room_1 s m #[Value.ref b] meth c D s.heap cL_law "MassclaimLaw" 9 ret et9 8192 104096) (hok : rr.1 = .inl 1) (hS : va_X b L xs s s.heap ∧ b < s.heap.size) (K23 : ∀ (x0 : Unit) (x1 : Nat) (x2 : Nat) (x3 : Nat) (x4 : Int32) (h : Hp) (H : Heap) (locs : List Loc) (cells slots : Nat) (ls : Array Slot), HP D s.heap h H → LO s.heap locs → lv_has ls 9 [(0, .ref b), (1, rv x1), (2, rv x2), (3, rv x3), (4, .int x4)] → k23 x0 x1 x2 x3 x4 h = some rr → W p l e room_1 s m #[Value.ref b] below meth c H locs cells slots (lw_Z below #[Value.ref b] s) (F0 m 23 ls [])) : ∀ (x0 : Unit) (x1 : Nat) (x2 : Nat) (x3 : Nat) (x4 : Int32) (h : Hp) (H : Heap) (locs : List Loc) (cells slots : Nat) (ls : Array Slot), HP D s.heap h H → LO s.heap locs → lv_has ls 9 [(0, .ref b), (1, rv x1), (2, rv x2), (3, rv x3), (4, .int x4)] → f_L_law_709 L xs k23 x0 x1 x2 x3 x4 h = some rr → W p l e room_1 s m #[Value.ref b] below meth c H locs cells slots (lw_Z below #[Value.ref b] s) (F0 m 709 ls []) := by
  obtain ⟨⟨hx, hb, hml, hown, hts⟩, -⟩ := id C
  have hl9 := C.2.1.2.2.1
  intro x0 x1 x2 x3 x4 h H locs cells slots ls hH hL hl hrun
  unfold f_L_law_709 at hrun
  refine lv_goto (tgt := 3277) (pc := 709) hx hb dL_law_709 (by decide) ?_
  exact b_L_law_3277 C hok hS K23 x0 x1 x2 x3 x4 h H locs cells slots ls hH hL (lv_sub hl [0, 1, 2, 3, 4] rfl) hrun

theorem b_L_law_676 {rr : (Int32 ⊕ Ex) × Hp} {k23 : Unit → Nat → Nat → Nat → Int32 → Hp → Rt Int32} {b L : Nat} {xs : Nat → Int32} {et9 : List (Nat × Nat × Nat × Nat)} (C : CX p l room_1 s m #[Value.ref b] meth c D s.heap cL_law "MassclaimLaw" 9 ret et9 8192 104096) (hok : rr.1 = .inl 1) (hS : va_X b L xs s s.heap ∧ b < s.heap.size) (K23 : ∀ (x0 : Unit) (x1 : Nat) (x2 : Nat) (x3 : Nat) (x4 : Int32) (h : Hp) (H : Heap) (locs : List Loc) (cells slots : Nat) (ls : Array Slot), HP D s.heap h H → LO s.heap locs → lv_has ls 9 [(0, .ref b), (1, rv x1), (2, rv x2), (3, rv x3), (4, .int x4)] → k23 x0 x1 x2 x3 x4 h = some rr → W p l e room_1 s m #[Value.ref b] below meth c H locs cells slots (lw_Z below #[Value.ref b] s) (F0 m 23 ls [])) : ∀ (x0 : Unit) (x1 : Nat) (x2 : Nat) (x3 : Nat) (x4 : Int32) (x5 : Int32) (y0 : Nat) (y1 : Int32) (y2 : Int32) (y3 : Int32) (h : Hp) (H : Heap) (locs : List Loc) (cells slots : Nat) (ls : Array Slot), HP D s.heap h H → LO s.heap locs → lv_has ls 9 [(0, .ref b), (1, rv x1), (2, rv x2), (3, rv x3), (4, .int x4), (5, .int x5)] → f_L_law_676 L xs k23 x0 x1 x2 x3 x4 x5 y0 y1 y2 y3 h = some rr → W p l e room_1 s m #[Value.ref b] below meth c H locs cells slots (lw_Z below #[Value.ref b] s) (F0 m 676 ls [.int y3, .int y2, .int y1, rv y0]) := by
  obtain ⟨⟨hx, hb, hml, hown, hts⟩, -⟩ := id C
  have hl9 := C.2.1.2.2.1
  intro x0 x1 x2 x3 x4 x5 y0 y1 y2 y3 h H locs cells slots ls hH hL hl hrun
  unfold f_L_law_676 at hrun
  obtain ⟨c79, hrun⟩ := gd_some hrun
  refine V_bdN (pc := 676) hL hrun (fun rr1 e1 => Z_runV (rest := []) C hH (m_X4_subclass hl9 e1) wV_X0_191 c79 rfl (by decide) rfl rfl ⟨by decide, by decide⟩ rfl (Nat.le_of_ble_eq_true rfl) hl.1 dL_law_676) (fun v77 h78 H locs cells slots hH hL hrun => ?_)
  refine lv_istore (i := 6) (lv' := [(6, .int v77), (0, .ref b), (1, rv x1), (2, rv x2), (3, rv x3), (4, .int x4), (5, .int x5)]) (pc := 679) hx hb dL_law_679 hl (by decide) rfl (fun ls hl => ?_)
  refine V_aload_n (pc := 681) hx hb dL_law_681 rfl (lv_at hl 3 rfl) ?_
  obtain ⟨c82, hrun⟩ := gd_some hrun
  refine V_bdN (pc := 682) hL hrun (fun rr1 e1 => Z_runV (rest := []) C hH (m_X4_thrown hl9 e1) wV_X0_170 c82 rfl (by decide) rfl rfl ⟨by decide, by decide⟩ rfl (Nat.le_of_ble_eq_true rfl) hl.1 dL_law_682) (fun v80 h81 H locs cells slots hH hL hrun => ?_)
  refine lv_iload (pc := 685) hx hb dL_law_685 (lv_at hl 6 rfl) ?_
  refine lv_icmp_eq (tgt := 692) (pc := 687) hx hb dL_law_687 (by decide) (fun c_ => ?_) (fun c_ => ?_)
  · have hrun := ite_t hrun c_
    refine lv_iload (pc := 692) hx hb dL_law_692 (lv_at hl 6 rfl) ?_
    refine lv_if_ne (tgt := 709) (pc := 694) hx hb dL_law_694 (by decide) (fun c_ => ?_) (fun c_ => ?_)
    · have hrun := ite_f hrun c_
      exact b_L_law_709 C hok hS K23 x0 x1 x2 x3 x4 h81 H locs cells slots ls hH hL (lv_sub hl [1, 2, 3, 4, 5] rfl) hrun
    · have hrun := ite_t hrun c_
      refine V_aload_n (pc := 697) hx hb dL_law_697 rfl (lv_at hl 4 rfl) ?_
      refine lv_iconst (v := (0 : Int32)) (pc := 698) hx hb dL_law_698 (by decide) ?_
      obtain ⟨c83, hrun⟩ := gd_some hrun
      refine V_lald (pc := 699) C hH dL_law_699 c83 ?_
      refine lv_iload (pc := 700) hx hb dL_law_700 (lv_at hl 0 rfl) ?_
      refine lv_i2l (pc := 702) hx hb dL_law_702 rfl ?_
      refine V_lcmp_eq (tgt := 709) (pc := 703) hx hb dL_law_703 dL_law_704 (by decide) (fun c_ => ?_) (fun c_ => ?_)
      · have hrun := ite_t hrun c_
        exact b_L_law_709 C hok hS K23 x0 x1 x2 x3 x4 h81 H locs cells slots ls hH hL (lv_sub hl [1, 2, 3, 4, 5] rfl) hrun
      · have hrun := ite_f hrun c_
        refine lv_iconst (v := (0 : Int32)) (pc := 707) hx hb dL_law_707 (by decide) ?_
        exact V_lawret (pc := 708) C hH hL hok hrun dL_law_708
  · have hrun := ite_f hrun c_
    refine lv_iconst (v := (0 : Int32)) (pc := 690) hx hb dL_law_690 (by decide) ?_
    exact V_lawret (pc := 691) C hH hL hok hrun dL_law_691

theorem b_L_law_643 {rr : (Int32 ⊕ Ex) × Hp} {k23 : Unit → Nat → Nat → Nat → Int32 → Hp → Rt Int32} {b L : Nat} {xs : Nat → Int32} {et9 : List (Nat × Nat × Nat × Nat)} (C : CX p l room_1 s m #[Value.ref b] meth c D s.heap cL_law "MassclaimLaw" 9 ret et9 8192 104096) (hok : rr.1 = .inl 1) (hS : va_X b L xs s s.heap ∧ b < s.heap.size) (K23 : ∀ (x0 : Unit) (x1 : Nat) (x2 : Nat) (x3 : Nat) (x4 : Int32) (h : Hp) (H : Heap) (locs : List Loc) (cells slots : Nat) (ls : Array Slot), HP D s.heap h H → LO s.heap locs → lv_has ls 9 [(0, .ref b), (1, rv x1), (2, rv x2), (3, rv x3), (4, .int x4)] → k23 x0 x1 x2 x3 x4 h = some rr → W p l e room_1 s m #[Value.ref b] below meth c H locs cells slots (lw_Z below #[Value.ref b] s) (F0 m 23 ls [])) : ∀ (x0 : Unit) (x1 : Nat) (x2 : Nat) (x3 : Nat) (x4 : Int32) (y0 : Nat) (y1 : Int32) (y2 : Int32) (y3 : Int32) (h : Hp) (H : Heap) (locs : List Loc) (cells slots : Nat) (ls : Array Slot), HP D s.heap h H → LO s.heap locs → lv_has ls 9 [(0, .ref b), (1, rv x1), (2, rv x2), (3, rv x3), (4, .int x4)] → f_L_law_643 L xs k23 x0 x1 x2 x3 x4 y0 y1 y2 y3 h = some rr → W p l e room_1 s m #[Value.ref b] below meth c H locs cells slots (lw_Z below #[Value.ref b] s) (F0 m 643 ls [.int y3, .int y2, .int y1, rv y0]) := by
  obtain ⟨⟨hx, hb, hml, hown, hts⟩, -⟩ := id C
  have hl9 := C.2.1.2.2.1
  intro x0 x1 x2 x3 x4 y0 y1 y2 y3 h H locs cells slots ls hH hL hl hrun
  unfold f_L_law_643 at hrun
  refine V_aload_n (pc := 643) hx hb dL_law_643 rfl (lv_at hl 3 rfl) ?_
  refine V_bdN (pc := 644) hL hrun (fun rr1 e1 => Z_runSH (rest := []) C hH (m_X0_subclass hl9 e1) wSH_X0_188 rfl ⟨by decide, by decide⟩ rfl (Nat.le_of_ble_eq_true rfl) hl.1 dL_law_644) (fun v84 h85 H locs cells slots hH hL hrun => ?_)
  refine lv_istore (i := 5) (lv' := [(5, .int v84), (0, .ref b), (1, rv x1), (2, rv x2), (3, rv x3), (4, .int x4)]) (pc := 647) hx hb dL_law_647 hl (by decide) rfl (fun ls hl => ?_)
  refine V_aload_n (pc := 649) hx hb dL_law_649 rfl (lv_at hl 3 rfl) ?_
  refine lv_aload_n (pc := 650) hx hb dL_law_650 rfl (lv_at hl 1 rfl) ?_
  refine lv_iload (pc := 651) hx hb dL_law_651 (lv_at hl 5 rfl) ?_
  refine lv_iconst (v := (1 : Int32)) (pc := 653) hx hb dL_law_653 (by decide) ?_
  refine lv_iadd (pc := 654) hx hb dL_law_654 ?_
  obtain ⟨c86, hrun⟩ := gd_some hrun
  refine V_sld (pc := 655) C hH hS dL_law_655 c86 ?_
  refine lv_aload_n (pc := 656) hx hb dL_law_656 rfl (lv_at hl 1 rfl) ?_
  refine lv_iload (pc := 657) hx hb dL_law_657 (lv_at hl 5 rfl) ?_
  refine lv_iconst (v := (2 : Int32)) (pc := 659) hx hb dL_law_659 (by decide) ?_
  refine lv_iadd (pc := 660) hx hb dL_law_660 ?_
  obtain ⟨c87, hrun⟩ := gd_some hrun
  refine V_sld (pc := 661) C hH hS dL_law_661 c87 ?_
  refine lv_aload_n (pc := 662) hx hb dL_law_662 rfl (lv_at hl 1 rfl) ?_
  refine lv_iload (pc := 663) hx hb dL_law_663 (lv_at hl 5 rfl) ?_
  refine lv_iconst (v := (3 : Int32)) (pc := 665) hx hb dL_law_665 (by decide) ?_
  refine lv_iadd (pc := 666) hx hb dL_law_666 ?_
  obtain ⟨c88, hrun⟩ := gd_some hrun
  refine V_sld (pc := 667) C hH hS dL_law_667 c88 ?_
  refine lv_if_eq (tgt := 675) (pc := 668) hx hb dL_law_668 (by decide) (fun c_ => ?_) (fun c_ => ?_)
  · have hrun := ite_t hrun c_
    refine lv_iconst (v := (0 : Int32)) (pc := 675) hx hb dL_law_675 (by decide) ?_
    exact b_L_law_676 C hok hS K23 x0 x1 x2 x3 x4 v84 x2 (xs ((x4 + (1 : Int32))).toNatClampNeg) (xs ((x4 + (2 : Int32))).toNatClampNeg) (0 : Int32) h85 H locs cells slots ls hH hL (lv_sub hl [1, 2, 3, 4, 5, 0] rfl) hrun
  · have hrun := ite_f hrun c_
    refine lv_iconst (v := (1 : Int32)) (pc := 671) hx hb dL_law_671 (by decide) ?_
    refine lv_goto (tgt := 676) (pc := 672) hx hb dL_law_672 (by decide) ?_
    exact b_L_law_676 C hok hS K23 x0 x1 x2 x3 x4 v84 x2 (xs ((x4 + (1 : Int32))).toNatClampNeg) (xs ((x4 + (2 : Int32))).toNatClampNeg) (1 : Int32) h85 H locs cells slots ls hH hL (lv_sub hl [1, 2, 3, 4, 5, 0] rfl) hrun

theorem b_L_law_616 {rr : (Int32 ⊕ Ex) × Hp} {k23 : Unit → Nat → Nat → Nat → Int32 → Hp → Rt Int32} {b L : Nat} {xs : Nat → Int32} {et9 : List (Nat × Nat × Nat × Nat)} (C : CX p l room_1 s m #[Value.ref b] meth c D s.heap cL_law "MassclaimLaw" 9 ret et9 8192 104096) (hok : rr.1 = .inl 1) (hS : va_X b L xs s s.heap ∧ b < s.heap.size) (K23 : ∀ (x0 : Unit) (x1 : Nat) (x2 : Nat) (x3 : Nat) (x4 : Int32) (h : Hp) (H : Heap) (locs : List Loc) (cells slots : Nat) (ls : Array Slot), HP D s.heap h H → LO s.heap locs → lv_has ls 9 [(0, .ref b), (1, rv x1), (2, rv x2), (3, rv x3), (4, .int x4)] → k23 x0 x1 x2 x3 x4 h = some rr → W p l e room_1 s m #[Value.ref b] below meth c H locs cells slots (lw_Z below #[Value.ref b] s) (F0 m 23 ls [])) : ∀ (x0 : Unit) (x1 : Nat) (x2 : Nat) (x3 : Nat) (x4 : Int32) (h : Hp) (H : Heap) (locs : List Loc) (cells slots : Nat) (ls : Array Slot), HP D s.heap h H → LO s.heap locs → lv_has ls 9 [(0, .ref b), (1, rv x1), (2, rv x2), (3, rv x3), (4, .int x4)] → f_L_law_616 L xs k23 x0 x1 x2 x3 x4 h = some rr → W p l e room_1 s m #[Value.ref b] below meth c H locs cells slots (lw_Z below #[Value.ref b] s) (F0 m 616 ls []) := by
  obtain ⟨⟨hx, hb, hml, hown, hts⟩, -⟩ := id C
  have hl9 := C.2.1.2.2.1
  intro x0 x1 x2 x3 x4 h H locs cells slots ls hH hL hl hrun
  unfold f_L_law_616 at hrun
  refine V_aload_n (pc := 616) hx hb dL_law_616 rfl (lv_at hl 1 rfl) ?_
  refine lv_aload_n (pc := 617) hx hb dL_law_617 rfl (lv_at hl 0 rfl) ?_
  refine lv_iload (pc := 618) hx hb dL_law_618 (lv_at hl 4 rfl) ?_
  refine lv_iconst (v := (1 : Int32)) (pc := 620) hx hb dL_law_620 (by decide) ?_
  refine lv_iadd (pc := 621) hx hb dL_law_621 ?_
  obtain ⟨c89, hrun⟩ := gd_some hrun
  refine V_sld (pc := 622) C hH hS dL_law_622 c89 ?_
  refine lv_aload_n (pc := 623) hx hb dL_law_623 rfl (lv_at hl 0 rfl) ?_
  refine lv_iload (pc := 624) hx hb dL_law_624 (lv_at hl 4 rfl) ?_
  refine lv_iconst (v := (2 : Int32)) (pc := 626) hx hb dL_law_626 (by decide) ?_
  refine lv_iadd (pc := 627) hx hb dL_law_627 ?_
  obtain ⟨c90, hrun⟩ := gd_some hrun
  refine V_sld (pc := 628) C hH hS dL_law_628 c90 ?_
  refine lv_aload_n (pc := 629) hx hb dL_law_629 rfl (lv_at hl 0 rfl) ?_
  refine lv_iload (pc := 630) hx hb dL_law_630 (lv_at hl 4 rfl) ?_
  refine lv_iconst (v := (3 : Int32)) (pc := 632) hx hb dL_law_632 (by decide) ?_
  refine lv_iadd (pc := 633) hx hb dL_law_633 ?_
  obtain ⟨c91, hrun⟩ := gd_some hrun
  refine V_sld (pc := 634) C hH hS dL_law_634 c91 ?_
  refine lv_if_eq (tgt := 642) (pc := 635) hx hb dL_law_635 (by decide) (fun c_ => ?_) (fun c_ => ?_)
  · have hrun := ite_t hrun c_
    refine lv_iconst (v := (0 : Int32)) (pc := 642) hx hb dL_law_642 (by decide) ?_
    exact b_L_law_643 C hok hS K23 x0 x1 x2 x3 x4 x1 (xs ((x4 + (1 : Int32))).toNatClampNeg) (xs ((x4 + (2 : Int32))).toNatClampNeg) (0 : Int32) h H locs cells slots ls hH hL (lv_sub hl [0, 1, 2, 3, 4] rfl) hrun
  · have hrun := ite_f hrun c_
    refine lv_iconst (v := (1 : Int32)) (pc := 638) hx hb dL_law_638 (by decide) ?_
    refine lv_goto (tgt := 643) (pc := 639) hx hb dL_law_639 (by decide) ?_
    exact b_L_law_643 C hok hS K23 x0 x1 x2 x3 x4 x1 (xs ((x4 + (1 : Int32))).toNatClampNeg) (xs ((x4 + (2 : Int32))).toNatClampNeg) (1 : Int32) h H locs cells slots ls hH hL (lv_sub hl [0, 1, 2, 3, 4] rfl) hrun

theorem b_L_law_777 {rr : (Int32 ⊕ Ex) × Hp} {k23 : Unit → Nat → Nat → Nat → Int32 → Hp → Rt Int32} {b L : Nat} {xs : Nat → Int32} {et9 : List (Nat × Nat × Nat × Nat)} (C : CX p l room_1 s m #[Value.ref b] meth c D s.heap cL_law "MassclaimLaw" 9 ret et9 8192 104096) (hok : rr.1 = .inl 1) (hS : va_X b L xs s s.heap ∧ b < s.heap.size) (K23 : ∀ (x0 : Unit) (x1 : Nat) (x2 : Nat) (x3 : Nat) (x4 : Int32) (h : Hp) (H : Heap) (locs : List Loc) (cells slots : Nat) (ls : Array Slot), HP D s.heap h H → LO s.heap locs → lv_has ls 9 [(0, .ref b), (1, rv x1), (2, rv x2), (3, rv x3), (4, .int x4)] → k23 x0 x1 x2 x3 x4 h = some rr → W p l e room_1 s m #[Value.ref b] below meth c H locs cells slots (lw_Z below #[Value.ref b] s) (F0 m 23 ls [])) : ∀ (x0 : Unit) (x1 : Nat) (x2 : Nat) (x3 : Nat) (x4 : Int32) (h : Hp) (H : Heap) (locs : List Loc) (cells slots : Nat) (ls : Array Slot), HP D s.heap h H → LO s.heap locs → lv_has ls 9 [(0, .ref b), (1, rv x1), (2, rv x2), (3, rv x3), (4, .int x4)] → f_L_law_777 L xs k23 x0 x1 x2 x3 x4 h = some rr → W p l e room_1 s m #[Value.ref b] below meth c H locs cells slots (lw_Z below #[Value.ref b] s) (F0 m 777 ls []) := by
  obtain ⟨⟨hx, hb, hml, hown, hts⟩, -⟩ := id C
  have hl9 := C.2.1.2.2.1
  intro x0 x1 x2 x3 x4 h H locs cells slots ls hH hL hl hrun
  unfold f_L_law_777 at hrun
  refine lv_goto (tgt := 3277) (pc := 777) hx hb dL_law_777 (by decide) ?_
  exact b_L_law_3277 C hok hS K23 x0 x1 x2 x3 x4 h H locs cells slots ls hH hL (lv_sub hl [0, 1, 2, 3, 4] rfl) hrun

theorem b_L_law_712 {rr : (Int32 ⊕ Ex) × Hp} {k23 : Unit → Nat → Nat → Nat → Int32 → Hp → Rt Int32} {b L : Nat} {xs : Nat → Int32} {et9 : List (Nat × Nat × Nat × Nat)} (C : CX p l room_1 s m #[Value.ref b] meth c D s.heap cL_law "MassclaimLaw" 9 ret et9 8192 104096) (hok : rr.1 = .inl 1) (hS : va_X b L xs s s.heap ∧ b < s.heap.size) (K23 : ∀ (x0 : Unit) (x1 : Nat) (x2 : Nat) (x3 : Nat) (x4 : Int32) (h : Hp) (H : Heap) (locs : List Loc) (cells slots : Nat) (ls : Array Slot), HP D s.heap h H → LO s.heap locs → lv_has ls 9 [(0, .ref b), (1, rv x1), (2, rv x2), (3, rv x3), (4, .int x4)] → k23 x0 x1 x2 x3 x4 h = some rr → W p l e room_1 s m #[Value.ref b] below meth c H locs cells slots (lw_Z below #[Value.ref b] s) (F0 m 23 ls [])) : ∀ (x0 : Unit) (x1 : Nat) (x2 : Nat) (x3 : Nat) (x4 : Int32) (h : Hp) (H : Heap) (locs : List Loc) (cells slots : Nat) (ls : Array Slot), HP D s.heap h H → LO s.heap locs → lv_has ls 9 [(0, .ref b), (1, rv x1), (2, rv x2), (3, rv x3), (4, .int x4)] → f_L_law_712 L xs k23 x0 x1 x2 x3 x4 h = some rr → W p l e room_1 s m #[Value.ref b] below meth c H locs cells slots (lw_Z below #[Value.ref b] s) (F0 m 712 ls []) := by
  obtain ⟨⟨hx, hb, hml, hown, hts⟩, -⟩ := id C
  have hl9 := C.2.1.2.2.1
  intro x0 x1 x2 x3 x4 h H locs cells slots ls hH hL hl hrun
  unfold f_L_law_712 at hrun
  refine V_aload_n (pc := 712) hx hb dL_law_712 rfl (lv_at hl 1 rfl) ?_
  refine lv_aload_n (pc := 713) hx hb dL_law_713 rfl (lv_at hl 0 rfl) ?_
  refine lv_iload (pc := 714) hx hb dL_law_714 (lv_at hl 4 rfl) ?_
  refine lv_iconst (v := (1 : Int32)) (pc := 716) hx hb dL_law_716 (by decide) ?_
  refine lv_iadd (pc := 717) hx hb dL_law_717 ?_
  obtain ⟨c92, hrun⟩ := gd_some hrun
  refine V_sld (pc := 718) C hH hS dL_law_718 c92 ?_
  refine lv_aload_n (pc := 719) hx hb dL_law_719 rfl (lv_at hl 0 rfl) ?_
  refine lv_iload (pc := 720) hx hb dL_law_720 (lv_at hl 4 rfl) ?_
  refine lv_iconst (v := (2 : Int32)) (pc := 722) hx hb dL_law_722 (by decide) ?_
  refine lv_iadd (pc := 723) hx hb dL_law_723 ?_
  obtain ⟨c93, hrun⟩ := gd_some hrun
  refine V_sld (pc := 724) C hH hS dL_law_724 c93 ?_
  refine V_aload_n (pc := 725) hx hb dL_law_725 rfl (lv_at hl 3 rfl) ?_
  refine V_bdN (pc := 726) hL hrun (fun rr1 e1 => Z_runSH (rest := []) C hH (m_X0_personAt hl9 e1) wSH_X0_192 rfl ⟨by decide, by decide⟩ rfl (Nat.le_of_ble_eq_true rfl) hl.1 dL_law_726) (fun v94 h95 H locs cells slots hH hL hrun => ?_)
  refine lv_istore (i := 5) (lv' := [(5, .int v94), (0, .ref b), (1, rv x1), (2, rv x2), (3, rv x3), (4, .int x4)]) (pc := 729) hx hb dL_law_729 hl (by decide) rfl (fun ls hl => ?_)
  refine V_aload_n (pc := 731) hx hb dL_law_731 rfl (lv_at hl 3 rfl) ?_
  refine lv_aload_n (pc := 732) hx hb dL_law_732 rfl (lv_at hl 1 rfl) ?_
  refine lv_iload (pc := 733) hx hb dL_law_733 (lv_at hl 5 rfl) ?_
  refine lv_iconst (v := (1 : Int32)) (pc := 735) hx hb dL_law_735 (by decide) ?_
  refine lv_iadd (pc := 736) hx hb dL_law_736 ?_
  obtain ⟨c96, hrun⟩ := gd_some hrun
  refine V_sld (pc := 737) C hH hS dL_law_737 c96 ?_
  refine lv_aload_n (pc := 738) hx hb dL_law_738 rfl (lv_at hl 1 rfl) ?_
  refine lv_iload (pc := 739) hx hb dL_law_739 (lv_at hl 5 rfl) ?_
  refine lv_iconst (v := (2 : Int32)) (pc := 741) hx hb dL_law_741 (by decide) ?_
  refine lv_iadd (pc := 742) hx hb dL_law_742 ?_
  obtain ⟨c97, hrun⟩ := gd_some hrun
  refine V_sld (pc := 743) C hH hS dL_law_743 c97 ?_
  obtain ⟨c100, hrun⟩ := gd_some hrun
  refine V_bdN (pc := 744) hL hrun (fun rr1 e1 => Z_runV (rest := []) C hH (m_X4_personAt hl9 e1) wV_X0_194 c100 rfl (by decide) rfl rfl ⟨by decide, by decide⟩ rfl (Nat.le_of_ble_eq_true rfl) hl.1 dL_law_744) (fun v98 h99 H locs cells slots hH hL hrun => ?_)
  refine lv_istore (i := 6) (lv' := [(6, .int v98), (5, .int v94), (0, .ref b), (1, rv x1), (2, rv x2), (3, rv x3), (4, .int x4)]) (pc := 747) hx hb dL_law_747 hl (by decide) rfl (fun ls hl => ?_)
  refine V_aload_n (pc := 749) hx hb dL_law_749 rfl (lv_at hl 4 rfl) ?_
  obtain ⟨c103, hrun⟩ := gd_some hrun
  refine V_bdN (pc := 750) hL hrun (fun rr1 e1 => Z_runV (rest := []) C hH (m_X4_thrown hl9 e1) wV_X0_170 c103 rfl (by decide) rfl rfl ⟨by decide, by decide⟩ rfl (Nat.le_of_ble_eq_true rfl) hl.1 dL_law_750) (fun v101 h102 H locs cells slots hH hL hrun => ?_)
  refine lv_iload (pc := 753) hx hb dL_law_753 (lv_at hl 1 rfl) ?_
  refine lv_icmp_eq (tgt := 760) (pc := 755) hx hb dL_law_755 (by decide) (fun c_ => ?_) (fun c_ => ?_)
  · have hrun := ite_t hrun c_
    refine lv_iload (pc := 760) hx hb dL_law_760 (lv_at hl 1 rfl) ?_
    refine lv_if_ne (tgt := 777) (pc := 762) hx hb dL_law_762 (by decide) (fun c_ => ?_) (fun c_ => ?_)
    · have hrun := ite_f hrun c_
      exact b_L_law_777 C hok hS K23 x0 x1 x2 x3 x4 h102 H locs cells slots ls hH hL (lv_sub hl [2, 3, 4, 5, 6] rfl) hrun
    · have hrun := ite_t hrun c_
      refine V_aload_n (pc := 765) hx hb dL_law_765 rfl (lv_at hl 5 rfl) ?_
      refine lv_iconst (v := (0 : Int32)) (pc := 766) hx hb dL_law_766 (by decide) ?_
      obtain ⟨c104, hrun⟩ := gd_some hrun
      refine V_lald (pc := 767) C hH dL_law_767 c104 ?_
      refine lv_iload (pc := 768) hx hb dL_law_768 (lv_at hl 0 rfl) ?_
      refine lv_i2l (pc := 770) hx hb dL_law_770 rfl ?_
      refine V_lcmp_eq (tgt := 777) (pc := 771) hx hb dL_law_771 dL_law_772 (by decide) (fun c_ => ?_) (fun c_ => ?_)
      · have hrun := ite_t hrun c_
        exact b_L_law_777 C hok hS K23 x0 x1 x2 x3 x4 h102 H locs cells slots ls hH hL (lv_sub hl [2, 3, 4, 5, 6] rfl) hrun
      · have hrun := ite_f hrun c_
        refine lv_iconst (v := (0 : Int32)) (pc := 775) hx hb dL_law_775 (by decide) ?_
        exact V_lawret (pc := 776) C hH hL hok hrun dL_law_776
  · have hrun := ite_f hrun c_
    refine lv_iconst (v := (0 : Int32)) (pc := 758) hx hb dL_law_758 (by decide) ?_
    exact V_lawret (pc := 759) C hH hL hok hrun dL_law_759

theorem b_L_law_844 {rr : (Int32 ⊕ Ex) × Hp} {k23 : Unit → Nat → Nat → Nat → Int32 → Hp → Rt Int32} {b L : Nat} {xs : Nat → Int32} {et9 : List (Nat × Nat × Nat × Nat)} (C : CX p l room_1 s m #[Value.ref b] meth c D s.heap cL_law "MassclaimLaw" 9 ret et9 8192 104096) (hok : rr.1 = .inl 1) (hS : va_X b L xs s s.heap ∧ b < s.heap.size) (K23 : ∀ (x0 : Unit) (x1 : Nat) (x2 : Nat) (x3 : Nat) (x4 : Int32) (h : Hp) (H : Heap) (locs : List Loc) (cells slots : Nat) (ls : Array Slot), HP D s.heap h H → LO s.heap locs → lv_has ls 9 [(0, .ref b), (1, rv x1), (2, rv x2), (3, rv x3), (4, .int x4)] → k23 x0 x1 x2 x3 x4 h = some rr → W p l e room_1 s m #[Value.ref b] below meth c H locs cells slots (lw_Z below #[Value.ref b] s) (F0 m 23 ls [])) : ∀ (x0 : Unit) (x1 : Nat) (x2 : Nat) (x3 : Nat) (x4 : Int32) (h : Hp) (H : Heap) (locs : List Loc) (cells slots : Nat) (ls : Array Slot), HP D s.heap h H → LO s.heap locs → lv_has ls 9 [(0, .ref b), (1, rv x1), (2, rv x2), (3, rv x3), (4, .int x4)] → f_L_law_844 L xs k23 x0 x1 x2 x3 x4 h = some rr → W p l e room_1 s m #[Value.ref b] below meth c H locs cells slots (lw_Z below #[Value.ref b] s) (F0 m 844 ls []) := by
  obtain ⟨⟨hx, hb, hml, hown, hts⟩, -⟩ := id C
  have hl9 := C.2.1.2.2.1
  intro x0 x1 x2 x3 x4 h H locs cells slots ls hH hL hl hrun
  unfold f_L_law_844 at hrun
  refine lv_goto (tgt := 3277) (pc := 844) hx hb dL_law_844 (by decide) ?_
  exact b_L_law_3277 C hok hS K23 x0 x1 x2 x3 x4 h H locs cells slots ls hH hL (lv_sub hl [0, 1, 2, 3, 4] rfl) hrun

theorem b_L_law_780 {rr : (Int32 ⊕ Ex) × Hp} {k23 : Unit → Nat → Nat → Nat → Int32 → Hp → Rt Int32} {b L : Nat} {xs : Nat → Int32} {et9 : List (Nat × Nat × Nat × Nat)} (C : CX p l room_1 s m #[Value.ref b] meth c D s.heap cL_law "MassclaimLaw" 9 ret et9 8192 104096) (hok : rr.1 = .inl 1) (hS : va_X b L xs s s.heap ∧ b < s.heap.size) (K23 : ∀ (x0 : Unit) (x1 : Nat) (x2 : Nat) (x3 : Nat) (x4 : Int32) (h : Hp) (H : Heap) (locs : List Loc) (cells slots : Nat) (ls : Array Slot), HP D s.heap h H → LO s.heap locs → lv_has ls 9 [(0, .ref b), (1, rv x1), (2, rv x2), (3, rv x3), (4, .int x4)] → k23 x0 x1 x2 x3 x4 h = some rr → W p l e room_1 s m #[Value.ref b] below meth c H locs cells slots (lw_Z below #[Value.ref b] s) (F0 m 23 ls [])) : ∀ (x0 : Unit) (x1 : Nat) (x2 : Nat) (x3 : Nat) (x4 : Int32) (h : Hp) (H : Heap) (locs : List Loc) (cells slots : Nat) (ls : Array Slot), HP D s.heap h H → LO s.heap locs → lv_has ls 9 [(0, .ref b), (1, rv x1), (2, rv x2), (3, rv x3), (4, .int x4)] → f_L_law_780 L xs k23 x0 x1 x2 x3 x4 h = some rr → W p l e room_1 s m #[Value.ref b] below meth c H locs cells slots (lw_Z below #[Value.ref b] s) (F0 m 780 ls []) := by
  obtain ⟨⟨hx, hb, hml, hown, hts⟩, -⟩ := id C
  have hl9 := C.2.1.2.2.1
  intro x0 x1 x2 x3 x4 h H locs cells slots ls hH hL hl hrun
  unfold f_L_law_780 at hrun
  refine V_aload_n (pc := 780) hx hb dL_law_780 rfl (lv_at hl 1 rfl) ?_
  refine lv_aload_n (pc := 781) hx hb dL_law_781 rfl (lv_at hl 0 rfl) ?_
  refine lv_iload (pc := 782) hx hb dL_law_782 (lv_at hl 4 rfl) ?_
  refine lv_iconst (v := (1 : Int32)) (pc := 784) hx hb dL_law_784 (by decide) ?_
  refine lv_iadd (pc := 785) hx hb dL_law_785 ?_
  obtain ⟨c105, hrun⟩ := gd_some hrun
  refine V_sld (pc := 786) C hH hS dL_law_786 c105 ?_
  refine lv_aload_n (pc := 787) hx hb dL_law_787 rfl (lv_at hl 0 rfl) ?_
  refine lv_iload (pc := 788) hx hb dL_law_788 (lv_at hl 4 rfl) ?_
  refine lv_iconst (v := (2 : Int32)) (pc := 790) hx hb dL_law_790 (by decide) ?_
  refine lv_iadd (pc := 791) hx hb dL_law_791 ?_
  obtain ⟨c106, hrun⟩ := gd_some hrun
  refine V_sld (pc := 792) C hH hS dL_law_792 c106 ?_
  refine V_aload_n (pc := 793) hx hb dL_law_793 rfl (lv_at hl 3 rfl) ?_
  refine V_bdN (pc := 794) hL hrun (fun rr1 e1 => Z_runSH (rest := []) C hH (m_X0_moneyOf hl9 e1) wSH_X0_195 rfl ⟨by decide, by decide⟩ rfl (Nat.le_of_ble_eq_true rfl) hl.1 dL_law_794) (fun v107 h108 H locs cells slots hH hL hrun => ?_)
  refine lv_istore (i := 5) (lv' := [(5, .int v107), (0, .ref b), (1, rv x1), (2, rv x2), (3, rv x3), (4, .int x4)]) (pc := 797) hx hb dL_law_797 hl (by decide) rfl (fun ls hl => ?_)
  refine V_aload_n (pc := 799) hx hb dL_law_799 rfl (lv_at hl 3 rfl) ?_
  refine lv_aload_n (pc := 800) hx hb dL_law_800 rfl (lv_at hl 1 rfl) ?_
  refine lv_iload (pc := 801) hx hb dL_law_801 (lv_at hl 5 rfl) ?_
  refine lv_iconst (v := (1 : Int32)) (pc := 803) hx hb dL_law_803 (by decide) ?_
  refine lv_iadd (pc := 804) hx hb dL_law_804 ?_
  obtain ⟨c109, hrun⟩ := gd_some hrun
  refine V_sld (pc := 805) C hH hS dL_law_805 c109 ?_
  refine lv_aload_n (pc := 806) hx hb dL_law_806 rfl (lv_at hl 1 rfl) ?_
  refine lv_iload (pc := 807) hx hb dL_law_807 (lv_at hl 5 rfl) ?_
  refine lv_iconst (v := (2 : Int32)) (pc := 809) hx hb dL_law_809 (by decide) ?_
  refine lv_iadd (pc := 810) hx hb dL_law_810 ?_
  obtain ⟨c110, hrun⟩ := gd_some hrun
  refine V_sld (pc := 811) C hH hS dL_law_811 c110 ?_
  obtain ⟨c113, hrun⟩ := gd_some hrun
  refine V_bdN (pc := 812) hL hrun (fun rr1 e1 => Z_runV (rest := []) C hH (m_X4_moneyOf hl9 e1) wV_X0_197 c113 rfl (by decide) rfl rfl ⟨by decide, by decide⟩ rfl (Nat.le_of_ble_eq_true rfl) hl.1 dL_law_812) (fun v111 h112 H locs cells slots hH hL hrun => ?_)
  refine lv_lstore (i := 6) (lv' := [(6, .long v111), (5, .int v107), (0, .ref b), (1, rv x1), (2, rv x2), (3, rv x3), (4, .int x4)]) (pc := 815) hx hb dL_law_815 hl (by decide) rfl (fun ls hl => ?_)
  refine V_aload_n (pc := 817) hx hb dL_law_817 rfl (lv_at hl 4 rfl) ?_
  obtain ⟨c116, hrun⟩ := gd_some hrun
  refine V_bdN (pc := 818) hL hrun (fun rr1 e1 => Z_runV (rest := []) C hH (m_X4_thrown hl9 e1) wV_X0_170 c116 rfl (by decide) rfl rfl ⟨by decide, by decide⟩ rfl (Nat.le_of_ble_eq_true rfl) hl.1 dL_law_818) (fun v114 h115 H locs cells slots hH hL hrun => ?_)
  refine lv_iload (pc := 821) hx hb dL_law_821 (lv_at hl 1 rfl) ?_
  refine lv_icmp_eq (tgt := 828) (pc := 823) hx hb dL_law_823 (by decide) (fun c_ => ?_) (fun c_ => ?_)
  · have hrun := ite_t hrun c_
    refine lv_iload (pc := 828) hx hb dL_law_828 (lv_at hl 1 rfl) ?_
    refine lv_if_ne (tgt := 844) (pc := 830) hx hb dL_law_830 (by decide) (fun c_ => ?_) (fun c_ => ?_)
    · have hrun := ite_f hrun c_
      exact b_L_law_844 C hok hS K23 x0 x1 x2 x3 x4 h115 H locs cells slots ls hH hL (lv_sub hl [2, 3, 4, 5, 6] rfl) hrun
    · have hrun := ite_t hrun c_
      refine V_aload_n (pc := 833) hx hb dL_law_833 rfl (lv_at hl 5 rfl) ?_
      refine lv_iconst (v := (0 : Int32)) (pc := 834) hx hb dL_law_834 (by decide) ?_
      obtain ⟨c117, hrun⟩ := gd_some hrun
      refine V_lald (pc := 835) C hH dL_law_835 c117 ?_
      refine lv_lload (pc := 836) hx hb dL_law_836 (lv_at hl 0 rfl) ?_
      refine V_lcmp_eq (tgt := 844) (pc := 838) hx hb dL_law_838 dL_law_839 (by decide) (fun c_ => ?_) (fun c_ => ?_)
      · have hrun := ite_t hrun c_
        exact b_L_law_844 C hok hS K23 x0 x1 x2 x3 x4 h115 H locs cells slots ls hH hL (lv_sub hl [2, 3, 4, 5, 6] rfl) hrun
      · have hrun := ite_f hrun c_
        refine lv_iconst (v := (0 : Int32)) (pc := 842) hx hb dL_law_842 (by decide) ?_
        exact V_lawret (pc := 843) C hH hL hok hrun dL_law_843
  · have hrun := ite_f hrun c_
    refine lv_iconst (v := (0 : Int32)) (pc := 826) hx hb dL_law_826 (by decide) ?_
    exact V_lawret (pc := 827) C hH hL hok hrun dL_law_827

theorem b_L_law_911 {rr : (Int32 ⊕ Ex) × Hp} {k23 : Unit → Nat → Nat → Nat → Int32 → Hp → Rt Int32} {b L : Nat} {xs : Nat → Int32} {et9 : List (Nat × Nat × Nat × Nat)} (C : CX p l room_1 s m #[Value.ref b] meth c D s.heap cL_law "MassclaimLaw" 9 ret et9 8192 104096) (hok : rr.1 = .inl 1) (hS : va_X b L xs s s.heap ∧ b < s.heap.size) (K23 : ∀ (x0 : Unit) (x1 : Nat) (x2 : Nat) (x3 : Nat) (x4 : Int32) (h : Hp) (H : Heap) (locs : List Loc) (cells slots : Nat) (ls : Array Slot), HP D s.heap h H → LO s.heap locs → lv_has ls 9 [(0, .ref b), (1, rv x1), (2, rv x2), (3, rv x3), (4, .int x4)] → k23 x0 x1 x2 x3 x4 h = some rr → W p l e room_1 s m #[Value.ref b] below meth c H locs cells slots (lw_Z below #[Value.ref b] s) (F0 m 23 ls [])) : ∀ (x0 : Unit) (x1 : Nat) (x2 : Nat) (x3 : Nat) (x4 : Int32) (h : Hp) (H : Heap) (locs : List Loc) (cells slots : Nat) (ls : Array Slot), HP D s.heap h H → LO s.heap locs → lv_has ls 9 [(0, .ref b), (1, rv x1), (2, rv x2), (3, rv x3), (4, .int x4)] → f_L_law_911 L xs k23 x0 x1 x2 x3 x4 h = some rr → W p l e room_1 s m #[Value.ref b] below meth c H locs cells slots (lw_Z below #[Value.ref b] s) (F0 m 911 ls []) := by
  obtain ⟨⟨hx, hb, hml, hown, hts⟩, -⟩ := id C
  have hl9 := C.2.1.2.2.1
  intro x0 x1 x2 x3 x4 h H locs cells slots ls hH hL hl hrun
  unfold f_L_law_911 at hrun
  refine lv_goto (tgt := 3277) (pc := 911) hx hb dL_law_911 (by decide) ?_
  exact b_L_law_3277 C hok hS K23 x0 x1 x2 x3 x4 h H locs cells slots ls hH hL (lv_sub hl [0, 1, 2, 3, 4] rfl) hrun

theorem b_L_law_847 {rr : (Int32 ⊕ Ex) × Hp} {k23 : Unit → Nat → Nat → Nat → Int32 → Hp → Rt Int32} {b L : Nat} {xs : Nat → Int32} {et9 : List (Nat × Nat × Nat × Nat)} (C : CX p l room_1 s m #[Value.ref b] meth c D s.heap cL_law "MassclaimLaw" 9 ret et9 8192 104096) (hok : rr.1 = .inl 1) (hS : va_X b L xs s s.heap ∧ b < s.heap.size) (K23 : ∀ (x0 : Unit) (x1 : Nat) (x2 : Nat) (x3 : Nat) (x4 : Int32) (h : Hp) (H : Heap) (locs : List Loc) (cells slots : Nat) (ls : Array Slot), HP D s.heap h H → LO s.heap locs → lv_has ls 9 [(0, .ref b), (1, rv x1), (2, rv x2), (3, rv x3), (4, .int x4)] → k23 x0 x1 x2 x3 x4 h = some rr → W p l e room_1 s m #[Value.ref b] below meth c H locs cells slots (lw_Z below #[Value.ref b] s) (F0 m 23 ls [])) : ∀ (x0 : Unit) (x1 : Nat) (x2 : Nat) (x3 : Nat) (x4 : Int32) (h : Hp) (H : Heap) (locs : List Loc) (cells slots : Nat) (ls : Array Slot), HP D s.heap h H → LO s.heap locs → lv_has ls 9 [(0, .ref b), (1, rv x1), (2, rv x2), (3, rv x3), (4, .int x4)] → f_L_law_847 L xs k23 x0 x1 x2 x3 x4 h = some rr → W p l e room_1 s m #[Value.ref b] below meth c H locs cells slots (lw_Z below #[Value.ref b] s) (F0 m 847 ls []) := by
  obtain ⟨⟨hx, hb, hml, hown, hts⟩, -⟩ := id C
  have hl9 := C.2.1.2.2.1
  intro x0 x1 x2 x3 x4 h H locs cells slots ls hH hL hl hrun
  unfold f_L_law_847 at hrun
  refine V_aload_n (pc := 847) hx hb dL_law_847 rfl (lv_at hl 1 rfl) ?_
  refine lv_aload_n (pc := 848) hx hb dL_law_848 rfl (lv_at hl 0 rfl) ?_
  refine lv_iload (pc := 849) hx hb dL_law_849 (lv_at hl 4 rfl) ?_
  refine lv_iconst (v := (1 : Int32)) (pc := 851) hx hb dL_law_851 (by decide) ?_
  refine lv_iadd (pc := 852) hx hb dL_law_852 ?_
  obtain ⟨c118, hrun⟩ := gd_some hrun
  refine V_sld (pc := 853) C hH hS dL_law_853 c118 ?_
  refine lv_aload_n (pc := 854) hx hb dL_law_854 rfl (lv_at hl 0 rfl) ?_
  refine lv_iload (pc := 855) hx hb dL_law_855 (lv_at hl 4 rfl) ?_
  refine lv_iconst (v := (2 : Int32)) (pc := 857) hx hb dL_law_857 (by decide) ?_
  refine lv_iadd (pc := 858) hx hb dL_law_858 ?_
  obtain ⟨c119, hrun⟩ := gd_some hrun
  refine V_sld (pc := 859) C hH hS dL_law_859 c119 ?_
  refine V_aload_n (pc := 860) hx hb dL_law_860 rfl (lv_at hl 3 rfl) ?_
  refine V_bdN (pc := 861) hL hrun (fun rr1 e1 => Z_runSH (rest := []) C hH (m_X0_heirAt hl9 e1) wSH_X0_198 rfl ⟨by decide, by decide⟩ rfl (Nat.le_of_ble_eq_true rfl) hl.1 dL_law_861) (fun v120 h121 H locs cells slots hH hL hrun => ?_)
  refine lv_istore (i := 5) (lv' := [(5, .int v120), (0, .ref b), (1, rv x1), (2, rv x2), (3, rv x3), (4, .int x4)]) (pc := 864) hx hb dL_law_864 hl (by decide) rfl (fun ls hl => ?_)
  refine V_aload_n (pc := 866) hx hb dL_law_866 rfl (lv_at hl 3 rfl) ?_
  refine lv_aload_n (pc := 867) hx hb dL_law_867 rfl (lv_at hl 1 rfl) ?_
  refine lv_iload (pc := 868) hx hb dL_law_868 (lv_at hl 5 rfl) ?_
  refine lv_iconst (v := (1 : Int32)) (pc := 870) hx hb dL_law_870 (by decide) ?_
  refine lv_iadd (pc := 871) hx hb dL_law_871 ?_
  obtain ⟨c122, hrun⟩ := gd_some hrun
  refine V_sld (pc := 872) C hH hS dL_law_872 c122 ?_
  refine lv_aload_n (pc := 873) hx hb dL_law_873 rfl (lv_at hl 1 rfl) ?_
  refine lv_iload (pc := 874) hx hb dL_law_874 (lv_at hl 5 rfl) ?_
  refine lv_iconst (v := (2 : Int32)) (pc := 876) hx hb dL_law_876 (by decide) ?_
  refine lv_iadd (pc := 877) hx hb dL_law_877 ?_
  obtain ⟨c123, hrun⟩ := gd_some hrun
  refine V_sld (pc := 878) C hH hS dL_law_878 c123 ?_
  obtain ⟨c126, hrun⟩ := gd_some hrun
  refine V_bdN (pc := 879) hL hrun (fun rr1 e1 => Z_runV (rest := []) C hH (m_X4_heirAt hl9 e1) wV_X0_200 c126 rfl (by decide) rfl rfl ⟨by decide, by decide⟩ rfl (Nat.le_of_ble_eq_true rfl) hl.1 dL_law_879) (fun v124 h125 H locs cells slots hH hL hrun => ?_)
  refine lv_lstore (i := 6) (lv' := [(6, .long v124), (5, .int v120), (0, .ref b), (1, rv x1), (2, rv x2), (3, rv x3), (4, .int x4)]) (pc := 882) hx hb dL_law_882 hl (by decide) rfl (fun ls hl => ?_)
  refine V_aload_n (pc := 884) hx hb dL_law_884 rfl (lv_at hl 4 rfl) ?_
  obtain ⟨c129, hrun⟩ := gd_some hrun
  refine V_bdN (pc := 885) hL hrun (fun rr1 e1 => Z_runV (rest := []) C hH (m_X4_thrown hl9 e1) wV_X0_170 c129 rfl (by decide) rfl rfl ⟨by decide, by decide⟩ rfl (Nat.le_of_ble_eq_true rfl) hl.1 dL_law_885) (fun v127 h128 H locs cells slots hH hL hrun => ?_)
  refine lv_iload (pc := 888) hx hb dL_law_888 (lv_at hl 1 rfl) ?_
  refine lv_icmp_eq (tgt := 895) (pc := 890) hx hb dL_law_890 (by decide) (fun c_ => ?_) (fun c_ => ?_)
  · have hrun := ite_t hrun c_
    refine lv_iload (pc := 895) hx hb dL_law_895 (lv_at hl 1 rfl) ?_
    refine lv_if_ne (tgt := 911) (pc := 897) hx hb dL_law_897 (by decide) (fun c_ => ?_) (fun c_ => ?_)
    · have hrun := ite_f hrun c_
      exact b_L_law_911 C hok hS K23 x0 x1 x2 x3 x4 h128 H locs cells slots ls hH hL (lv_sub hl [2, 3, 4, 5, 6] rfl) hrun
    · have hrun := ite_t hrun c_
      refine V_aload_n (pc := 900) hx hb dL_law_900 rfl (lv_at hl 5 rfl) ?_
      refine lv_iconst (v := (0 : Int32)) (pc := 901) hx hb dL_law_901 (by decide) ?_
      obtain ⟨c130, hrun⟩ := gd_some hrun
      refine V_lald (pc := 902) C hH dL_law_902 c130 ?_
      refine lv_lload (pc := 903) hx hb dL_law_903 (lv_at hl 0 rfl) ?_
      refine V_lcmp_eq (tgt := 911) (pc := 905) hx hb dL_law_905 dL_law_906 (by decide) (fun c_ => ?_) (fun c_ => ?_)
      · have hrun := ite_t hrun c_
        exact b_L_law_911 C hok hS K23 x0 x1 x2 x3 x4 h128 H locs cells slots ls hH hL (lv_sub hl [2, 3, 4, 5, 6] rfl) hrun
      · have hrun := ite_f hrun c_
        refine lv_iconst (v := (0 : Int32)) (pc := 909) hx hb dL_law_909 (by decide) ?_
        exact V_lawret (pc := 910) C hH hL hok hrun dL_law_910
  · have hrun := ite_f hrun c_
    refine lv_iconst (v := (0 : Int32)) (pc := 893) hx hb dL_law_893 (by decide) ?_
    exact V_lawret (pc := 894) C hH hL hok hrun dL_law_894

theorem b_L_law_979 {rr : (Int32 ⊕ Ex) × Hp} {k23 : Unit → Nat → Nat → Nat → Int32 → Hp → Rt Int32} {b L : Nat} {xs : Nat → Int32} {et9 : List (Nat × Nat × Nat × Nat)} (C : CX p l room_1 s m #[Value.ref b] meth c D s.heap cL_law "MassclaimLaw" 9 ret et9 8192 104096) (hok : rr.1 = .inl 1) (hS : va_X b L xs s s.heap ∧ b < s.heap.size) (K23 : ∀ (x0 : Unit) (x1 : Nat) (x2 : Nat) (x3 : Nat) (x4 : Int32) (h : Hp) (H : Heap) (locs : List Loc) (cells slots : Nat) (ls : Array Slot), HP D s.heap h H → LO s.heap locs → lv_has ls 9 [(0, .ref b), (1, rv x1), (2, rv x2), (3, rv x3), (4, .int x4)] → k23 x0 x1 x2 x3 x4 h = some rr → W p l e room_1 s m #[Value.ref b] below meth c H locs cells slots (lw_Z below #[Value.ref b] s) (F0 m 23 ls [])) : ∀ (x0 : Unit) (x1 : Nat) (x2 : Nat) (x3 : Nat) (x4 : Int32) (h : Hp) (H : Heap) (locs : List Loc) (cells slots : Nat) (ls : Array Slot), HP D s.heap h H → LO s.heap locs → lv_has ls 9 [(0, .ref b), (1, rv x1), (2, rv x2), (3, rv x3), (4, .int x4)] → f_L_law_979 L xs k23 x0 x1 x2 x3 x4 h = some rr → W p l e room_1 s m #[Value.ref b] below meth c H locs cells slots (lw_Z below #[Value.ref b] s) (F0 m 979 ls []) := by
  obtain ⟨⟨hx, hb, hml, hown, hts⟩, -⟩ := id C
  have hl9 := C.2.1.2.2.1
  intro x0 x1 x2 x3 x4 h H locs cells slots ls hH hL hl hrun
  unfold f_L_law_979 at hrun
  refine lv_goto (tgt := 3277) (pc := 979) hx hb dL_law_979 (by decide) ?_
  exact b_L_law_3277 C hok hS K23 x0 x1 x2 x3 x4 h H locs cells slots ls hH hL (lv_sub hl [0, 1, 2, 3, 4] rfl) hrun

theorem b_L_law_914 {rr : (Int32 ⊕ Ex) × Hp} {k23 : Unit → Nat → Nat → Nat → Int32 → Hp → Rt Int32} {b L : Nat} {xs : Nat → Int32} {et9 : List (Nat × Nat × Nat × Nat)} (C : CX p l room_1 s m #[Value.ref b] meth c D s.heap cL_law "MassclaimLaw" 9 ret et9 8192 104096) (hok : rr.1 = .inl 1) (hS : va_X b L xs s s.heap ∧ b < s.heap.size) (K23 : ∀ (x0 : Unit) (x1 : Nat) (x2 : Nat) (x3 : Nat) (x4 : Int32) (h : Hp) (H : Heap) (locs : List Loc) (cells slots : Nat) (ls : Array Slot), HP D s.heap h H → LO s.heap locs → lv_has ls 9 [(0, .ref b), (1, rv x1), (2, rv x2), (3, rv x3), (4, .int x4)] → k23 x0 x1 x2 x3 x4 h = some rr → W p l e room_1 s m #[Value.ref b] below meth c H locs cells slots (lw_Z below #[Value.ref b] s) (F0 m 23 ls [])) : ∀ (x0 : Unit) (x1 : Nat) (x2 : Nat) (x3 : Nat) (x4 : Int32) (h : Hp) (H : Heap) (locs : List Loc) (cells slots : Nat) (ls : Array Slot), HP D s.heap h H → LO s.heap locs → lv_has ls 9 [(0, .ref b), (1, rv x1), (2, rv x2), (3, rv x3), (4, .int x4)] → f_L_law_914 L xs k23 x0 x1 x2 x3 x4 h = some rr → W p l e room_1 s m #[Value.ref b] below meth c H locs cells slots (lw_Z below #[Value.ref b] s) (F0 m 914 ls []) := by
  obtain ⟨⟨hx, hb, hml, hown, hts⟩, -⟩ := id C
  have hl9 := C.2.1.2.2.1
  intro x0 x1 x2 x3 x4 h H locs cells slots ls hH hL hl hrun
  unfold f_L_law_914 at hrun
  refine V_aload_n (pc := 914) hx hb dL_law_914 rfl (lv_at hl 1 rfl) ?_
  refine lv_aload_n (pc := 915) hx hb dL_law_915 rfl (lv_at hl 0 rfl) ?_
  refine lv_iload (pc := 916) hx hb dL_law_916 (lv_at hl 4 rfl) ?_
  refine lv_iconst (v := (1 : Int32)) (pc := 918) hx hb dL_law_918 (by decide) ?_
  refine lv_iadd (pc := 919) hx hb dL_law_919 ?_
  obtain ⟨c131, hrun⟩ := gd_some hrun
  refine V_sld (pc := 920) C hH hS dL_law_920 c131 ?_
  refine lv_aload_n (pc := 921) hx hb dL_law_921 rfl (lv_at hl 0 rfl) ?_
  refine lv_iload (pc := 922) hx hb dL_law_922 (lv_at hl 4 rfl) ?_
  refine lv_iconst (v := (2 : Int32)) (pc := 924) hx hb dL_law_924 (by decide) ?_
  refine lv_iadd (pc := 925) hx hb dL_law_925 ?_
  obtain ⟨c132, hrun⟩ := gd_some hrun
  refine V_sld (pc := 926) C hH hS dL_law_926 c132 ?_
  refine V_aload_n (pc := 927) hx hb dL_law_927 rfl (lv_at hl 3 rfl) ?_
  refine V_bdN (pc := 928) hL hrun (fun rr1 e1 => Z_runSH (rest := []) C hH (m_X0_notice hl9 e1) wSH_X0_201 rfl ⟨by decide, by decide⟩ rfl (Nat.le_of_ble_eq_true rfl) hl.1 dL_law_928) (fun v133 h134 H locs cells slots hH hL hrun => ?_)
  refine lv_istore (i := 5) (lv' := [(5, .int v133), (0, .ref b), (1, rv x1), (2, rv x2), (3, rv x3), (4, .int x4)]) (pc := 931) hx hb dL_law_931 hl (by decide) rfl (fun ls hl => ?_)
  refine V_aload_n (pc := 933) hx hb dL_law_933 rfl (lv_at hl 3 rfl) ?_
  refine lv_aload_n (pc := 934) hx hb dL_law_934 rfl (lv_at hl 1 rfl) ?_
  refine lv_iload (pc := 935) hx hb dL_law_935 (lv_at hl 5 rfl) ?_
  refine lv_iconst (v := (1 : Int32)) (pc := 937) hx hb dL_law_937 (by decide) ?_
  refine lv_iadd (pc := 938) hx hb dL_law_938 ?_
  obtain ⟨c135, hrun⟩ := gd_some hrun
  refine V_sld (pc := 939) C hH hS dL_law_939 c135 ?_
  refine lv_aload_n (pc := 940) hx hb dL_law_940 rfl (lv_at hl 1 rfl) ?_
  refine lv_iload (pc := 941) hx hb dL_law_941 (lv_at hl 5 rfl) ?_
  refine lv_iconst (v := (2 : Int32)) (pc := 943) hx hb dL_law_943 (by decide) ?_
  refine lv_iadd (pc := 944) hx hb dL_law_944 ?_
  obtain ⟨c136, hrun⟩ := gd_some hrun
  refine V_sld (pc := 945) C hH hS dL_law_945 c136 ?_
  obtain ⟨c139, hrun⟩ := gd_some hrun
  refine V_bdN (pc := 946) hL hrun (fun rr1 e1 => Z_runV (rest := []) C hH (m_X4_notice hl9 e1) wV_X0_203 c139 rfl (by decide) rfl rfl ⟨by decide, by decide⟩ rfl (Nat.le_of_ble_eq_true rfl) hl.1 dL_law_946) (fun v137 h138 H locs cells slots hH hL hrun => ?_)
  refine lv_istore (i := 6) (lv' := [(6, .int v137), (5, .int v133), (0, .ref b), (1, rv x1), (2, rv x2), (3, rv x3), (4, .int x4)]) (pc := 949) hx hb dL_law_949 hl (by decide) rfl (fun ls hl => ?_)
  refine V_aload_n (pc := 951) hx hb dL_law_951 rfl (lv_at hl 4 rfl) ?_
  obtain ⟨c142, hrun⟩ := gd_some hrun
  refine V_bdN (pc := 952) hL hrun (fun rr1 e1 => Z_runV (rest := []) C hH (m_X4_thrown hl9 e1) wV_X0_170 c142 rfl (by decide) rfl rfl ⟨by decide, by decide⟩ rfl (Nat.le_of_ble_eq_true rfl) hl.1 dL_law_952) (fun v140 h141 H locs cells slots hH hL hrun => ?_)
  refine lv_iload (pc := 955) hx hb dL_law_955 (lv_at hl 1 rfl) ?_
  refine lv_icmp_eq (tgt := 962) (pc := 957) hx hb dL_law_957 (by decide) (fun c_ => ?_) (fun c_ => ?_)
  · have hrun := ite_t hrun c_
    refine lv_iload (pc := 962) hx hb dL_law_962 (lv_at hl 1 rfl) ?_
    refine lv_if_ne (tgt := 979) (pc := 964) hx hb dL_law_964 (by decide) (fun c_ => ?_) (fun c_ => ?_)
    · have hrun := ite_f hrun c_
      exact b_L_law_979 C hok hS K23 x0 x1 x2 x3 x4 h141 H locs cells slots ls hH hL (lv_sub hl [2, 3, 4, 5, 6] rfl) hrun
    · have hrun := ite_t hrun c_
      refine V_aload_n (pc := 967) hx hb dL_law_967 rfl (lv_at hl 5 rfl) ?_
      refine lv_iconst (v := (0 : Int32)) (pc := 968) hx hb dL_law_968 (by decide) ?_
      obtain ⟨c143, hrun⟩ := gd_some hrun
      refine V_lald (pc := 969) C hH dL_law_969 c143 ?_
      refine lv_iload (pc := 970) hx hb dL_law_970 (lv_at hl 0 rfl) ?_
      refine lv_i2l (pc := 972) hx hb dL_law_972 rfl ?_
      refine V_lcmp_eq (tgt := 979) (pc := 973) hx hb dL_law_973 dL_law_974 (by decide) (fun c_ => ?_) (fun c_ => ?_)
      · have hrun := ite_t hrun c_
        exact b_L_law_979 C hok hS K23 x0 x1 x2 x3 x4 h141 H locs cells slots ls hH hL (lv_sub hl [2, 3, 4, 5, 6] rfl) hrun
      · have hrun := ite_f hrun c_
        refine lv_iconst (v := (0 : Int32)) (pc := 977) hx hb dL_law_977 (by decide) ?_
        exact V_lawret (pc := 978) C hH hL hok hrun dL_law_978
  · have hrun := ite_f hrun c_
    refine lv_iconst (v := (0 : Int32)) (pc := 960) hx hb dL_law_960 (by decide) ?_
    exact V_lawret (pc := 961) C hH hL hok hrun dL_law_961

theorem b_L_law_1070 {rr : (Int32 ⊕ Ex) × Hp} {k23 : Unit → Nat → Nat → Nat → Int32 → Hp → Rt Int32} {b L : Nat} {xs : Nat → Int32} {et9 : List (Nat × Nat × Nat × Nat)} (C : CX p l room_1 s m #[Value.ref b] meth c D s.heap cL_law "MassclaimLaw" 9 ret et9 8192 104096) (hok : rr.1 = .inl 1) (hS : va_X b L xs s s.heap ∧ b < s.heap.size) (K23 : ∀ (x0 : Unit) (x1 : Nat) (x2 : Nat) (x3 : Nat) (x4 : Int32) (h : Hp) (H : Heap) (locs : List Loc) (cells slots : Nat) (ls : Array Slot), HP D s.heap h H → LO s.heap locs → lv_has ls 9 [(0, .ref b), (1, rv x1), (2, rv x2), (3, rv x3), (4, .int x4)] → k23 x0 x1 x2 x3 x4 h = some rr → W p l e room_1 s m #[Value.ref b] below meth c H locs cells slots (lw_Z below #[Value.ref b] s) (F0 m 23 ls [])) : ∀ (x0 : Unit) (x1 : Nat) (x2 : Nat) (x3 : Nat) (x4 : Int32) (h : Hp) (H : Heap) (locs : List Loc) (cells slots : Nat) (ls : Array Slot), HP D s.heap h H → LO s.heap locs → lv_has ls 9 [(0, .ref b), (1, rv x1), (2, rv x2), (3, rv x3), (4, .int x4)] → f_L_law_1070 L xs k23 x0 x1 x2 x3 x4 h = some rr → W p l e room_1 s m #[Value.ref b] below meth c H locs cells slots (lw_Z below #[Value.ref b] s) (F0 m 1070 ls []) := by
  obtain ⟨⟨hx, hb, hml, hown, hts⟩, -⟩ := id C
  have hl9 := C.2.1.2.2.1
  intro x0 x1 x2 x3 x4 h H locs cells slots ls hH hL hl hrun
  unfold f_L_law_1070 at hrun
  refine lv_goto (tgt := 3277) (pc := 1070) hx hb dL_law_1070 (by decide) ?_
  exact b_L_law_3277 C hok hS K23 x0 x1 x2 x3 x4 h H locs cells slots ls hH hL (lv_sub hl [0, 1, 2, 3, 4] rfl) hrun

theorem b_L_law_1064 {rr : (Int32 ⊕ Ex) × Hp} {k23 : Unit → Nat → Nat → Nat → Int32 → Hp → Rt Int32} {b L : Nat} {xs : Nat → Int32} {et9 : List (Nat × Nat × Nat × Nat)} (C : CX p l room_1 s m #[Value.ref b] meth c D s.heap cL_law "MassclaimLaw" 9 ret et9 8192 104096) (hok : rr.1 = .inl 1) (hS : va_X b L xs s s.heap ∧ b < s.heap.size) (K23 : ∀ (x0 : Unit) (x1 : Nat) (x2 : Nat) (x3 : Nat) (x4 : Int32) (h : Hp) (H : Heap) (locs : List Loc) (cells slots : Nat) (ls : Array Slot), HP D s.heap h H → LO s.heap locs → lv_has ls 9 [(0, .ref b), (1, rv x1), (2, rv x2), (3, rv x3), (4, .int x4)] → k23 x0 x1 x2 x3 x4 h = some rr → W p l e room_1 s m #[Value.ref b] below meth c H locs cells slots (lw_Z below #[Value.ref b] s) (F0 m 23 ls [])) : ∀ (x0 : Unit) (x1 : Nat) (x2 : Nat) (x3 : Nat) (x4 : Int32) (y0 : Int64) (y1 : Int64) (h : Hp) (H : Heap) (locs : List Loc) (cells slots : Nat) (ls : Array Slot), HP D s.heap h H → LO s.heap locs → lv_has ls 9 [(0, .ref b), (1, rv x1), (2, rv x2), (3, rv x3), (4, .int x4)] → f_L_law_1064 L xs k23 x0 x1 x2 x3 x4 y0 y1 h = some rr → W p l e room_1 s m #[Value.ref b] below meth c H locs cells slots (lw_Z below #[Value.ref b] s) (F0 m 1064 ls [.long y1, .long y0]) := by
  obtain ⟨⟨hx, hb, hml, hown, hts⟩, -⟩ := id C
  have hl9 := C.2.1.2.2.1
  intro x0 x1 x2 x3 x4 y0 y1 h H locs cells slots ls hH hL hl hrun
  unfold f_L_law_1064 at hrun
  refine V_lcmp_eq (tgt := 1070) (pc := 1064) hx hb dL_law_1064 dL_law_1065 (by decide) (fun c_ => ?_) (fun c_ => ?_)
  · have hrun := ite_t hrun c_
    exact b_L_law_1070 C hok hS K23 x0 x1 x2 x3 x4 h H locs cells slots ls hH hL (lv_sub hl [0, 1, 2, 3, 4] rfl) hrun
  · have hrun := ite_f hrun c_
    refine lv_iconst (v := (0 : Int32)) (pc := 1068) hx hb dL_law_1068 (by decide) ?_
    exact V_lawret (pc := 1069) C hH hL hok hrun dL_law_1069

theorem b_L_law_1030 {rr : (Int32 ⊕ Ex) × Hp} {k23 : Unit → Nat → Nat → Nat → Int32 → Hp → Rt Int32} {b L : Nat} {xs : Nat → Int32} {et9 : List (Nat × Nat × Nat × Nat)} (C : CX p l room_1 s m #[Value.ref b] meth c D s.heap cL_law "MassclaimLaw" 9 ret et9 8192 104096) (hok : rr.1 = .inl 1) (hS : va_X b L xs s s.heap ∧ b < s.heap.size) (K23 : ∀ (x0 : Unit) (x1 : Nat) (x2 : Nat) (x3 : Nat) (x4 : Int32) (h : Hp) (H : Heap) (locs : List Loc) (cells slots : Nat) (ls : Array Slot), HP D s.heap h H → LO s.heap locs → lv_has ls 9 [(0, .ref b), (1, rv x1), (2, rv x2), (3, rv x3), (4, .int x4)] → k23 x0 x1 x2 x3 x4 h = some rr → W p l e room_1 s m #[Value.ref b] below meth c H locs cells slots (lw_Z below #[Value.ref b] s) (F0 m 23 ls [])) : ∀ (x0 : Unit) (x1 : Nat) (x2 : Nat) (x3 : Nat) (x4 : Int32) (x5 : Int32) (y0 : Nat) (y1 : Int32) (y2 : Int32) (h : Hp) (H : Heap) (locs : List Loc) (cells slots : Nat) (ls : Array Slot), HP D s.heap h H → LO s.heap locs → lv_has ls 9 [(0, .ref b), (1, rv x1), (2, rv x2), (3, rv x3), (4, .int x4), (5, .int x5)] → f_L_law_1030 L xs k23 x0 x1 x2 x3 x4 x5 y0 y1 y2 h = some rr → W p l e room_1 s m #[Value.ref b] below meth c H locs cells slots (lw_Z below #[Value.ref b] s) (F0 m 1030 ls [.int y2, .int y1, rv y0]) := by
  obtain ⟨⟨hx, hb, hml, hown, hts⟩, -⟩ := id C
  have hl9 := C.2.1.2.2.1
  intro x0 x1 x2 x3 x4 x5 y0 y1 y2 h H locs cells slots ls hH hL hl hrun
  unfold f_L_law_1030 at hrun
  obtain ⟨c146, hrun⟩ := gd_some hrun
  refine V_bdN (pc := 1030) hL hrun (fun rr1 e1 => Z_runV (rest := []) C hH (m_X4_address hl9 e1) wV_X0_207 c146 rfl (by decide) rfl rfl ⟨by decide, by decide⟩ rfl (Nat.le_of_ble_eq_true rfl) hl.1 dL_law_1030) (fun v144 h145 H locs cells slots hH hL hrun => ?_)
  refine lv_istore (i := 6) (lv' := [(6, .int v144), (0, .ref b), (1, rv x1), (2, rv x2), (3, rv x3), (4, .int x4), (5, .int x5)]) (pc := 1033) hx hb dL_law_1033 hl (by decide) rfl (fun ls hl => ?_)
  refine V_aload_n (pc := 1035) hx hb dL_law_1035 rfl (lv_at hl 3 rfl) ?_
  obtain ⟨c149, hrun⟩ := gd_some hrun
  refine V_bdN (pc := 1036) hL hrun (fun rr1 e1 => Z_runV (rest := []) C hH (m_X4_thrown hl9 e1) wV_X0_170 c149 rfl (by decide) rfl rfl ⟨by decide, by decide⟩ rfl (Nat.le_of_ble_eq_true rfl) hl.1 dL_law_1036) (fun v147 h148 H locs cells slots hH hL hrun => ?_)
  refine lv_iload (pc := 1039) hx hb dL_law_1039 (lv_at hl 6 rfl) ?_
  refine lv_icmp_eq (tgt := 1046) (pc := 1041) hx hb dL_law_1041 (by decide) (fun c_ => ?_) (fun c_ => ?_)
  · have hrun := ite_t hrun c_
    refine lv_iload (pc := 1046) hx hb dL_law_1046 (lv_at hl 6 rfl) ?_
    refine lv_if_ne (tgt := 1070) (pc := 1048) hx hb dL_law_1048 (by decide) (fun c_ => ?_) (fun c_ => ?_)
    · have hrun := ite_f hrun c_
      exact b_L_law_1070 C hok hS K23 x0 x1 x2 x3 x4 h148 H locs cells slots ls hH hL (lv_sub hl [1, 2, 3, 4, 5] rfl) hrun
    · have hrun := ite_t hrun c_
      refine V_aload_n (pc := 1051) hx hb dL_law_1051 rfl (lv_at hl 4 rfl) ?_
      refine lv_iconst (v := (0 : Int32)) (pc := 1052) hx hb dL_law_1052 (by decide) ?_
      obtain ⟨c150, hrun⟩ := gd_some hrun
      refine V_lald (pc := 1053) C hH dL_law_1053 c150 ?_
      refine lv_iload (pc := 1054) hx hb dL_law_1054 (lv_at hl 0 rfl) ?_
      refine lv_if_eq (tgt := 1063) (pc := 1056) hx hb dL_law_1056 (by decide) (fun c_ => ?_) (fun c_ => ?_)
      · have hrun := ite_t hrun c_
        refine lv_lconst (v := (0 : Int64)) (pc := 1063) hx hb dL_law_1063 (by decide) ?_
        exact b_L_law_1064 C hok hS K23 x0 x1 x2 x3 x4 (jL h148 x3 ((0 : Int32)).toNatClampNeg) (0 : Int64) h148 H locs cells slots ls hH hL (lv_sub hl [1, 2, 3, 4, 5] rfl) hrun
      · have hrun := ite_f hrun c_
        refine lv_lconst (v := (1 : Int64)) (pc := 1059) hx hb dL_law_1059 (by decide) ?_
        refine lv_goto (tgt := 1064) (pc := 1060) hx hb dL_law_1060 (by decide) ?_
        exact b_L_law_1064 C hok hS K23 x0 x1 x2 x3 x4 (jL h148 x3 ((0 : Int32)).toNatClampNeg) (1 : Int64) h148 H locs cells slots ls hH hL (lv_sub hl [1, 2, 3, 4, 5] rfl) hrun
  · have hrun := ite_f hrun c_
    refine lv_iconst (v := (0 : Int32)) (pc := 1044) hx hb dL_law_1044 (by decide) ?_
    exact V_lawret (pc := 1045) C hH hL hok hrun dL_law_1045

theorem b_L_law_1003 {rr : (Int32 ⊕ Ex) × Hp} {k23 : Unit → Nat → Nat → Nat → Int32 → Hp → Rt Int32} {b L : Nat} {xs : Nat → Int32} {et9 : List (Nat × Nat × Nat × Nat)} (C : CX p l room_1 s m #[Value.ref b] meth c D s.heap cL_law "MassclaimLaw" 9 ret et9 8192 104096) (hok : rr.1 = .inl 1) (hS : va_X b L xs s s.heap ∧ b < s.heap.size) (K23 : ∀ (x0 : Unit) (x1 : Nat) (x2 : Nat) (x3 : Nat) (x4 : Int32) (h : Hp) (H : Heap) (locs : List Loc) (cells slots : Nat) (ls : Array Slot), HP D s.heap h H → LO s.heap locs → lv_has ls 9 [(0, .ref b), (1, rv x1), (2, rv x2), (3, rv x3), (4, .int x4)] → k23 x0 x1 x2 x3 x4 h = some rr → W p l e room_1 s m #[Value.ref b] below meth c H locs cells slots (lw_Z below #[Value.ref b] s) (F0 m 23 ls [])) : ∀ (x0 : Unit) (x1 : Nat) (x2 : Nat) (x3 : Nat) (x4 : Int32) (y0 : Nat) (y1 : Int32) (y2 : Int32) (h : Hp) (H : Heap) (locs : List Loc) (cells slots : Nat) (ls : Array Slot), HP D s.heap h H → LO s.heap locs → lv_has ls 9 [(0, .ref b), (1, rv x1), (2, rv x2), (3, rv x3), (4, .int x4)] → f_L_law_1003 L xs k23 x0 x1 x2 x3 x4 y0 y1 y2 h = some rr → W p l e room_1 s m #[Value.ref b] below meth c H locs cells slots (lw_Z below #[Value.ref b] s) (F0 m 1003 ls [.int y2, .int y1, rv y0]) := by
  obtain ⟨⟨hx, hb, hml, hown, hts⟩, -⟩ := id C
  have hl9 := C.2.1.2.2.1
  intro x0 x1 x2 x3 x4 y0 y1 y2 h H locs cells slots ls hH hL hl hrun
  unfold f_L_law_1003 at hrun
  refine V_aload_n (pc := 1003) hx hb dL_law_1003 rfl (lv_at hl 3 rfl) ?_
  refine V_bdN (pc := 1004) hL hrun (fun rr1 e1 => Z_runSH (rest := []) C hH (m_X0_address hl9 e1) wSH_X0_204 rfl ⟨by decide, by decide⟩ rfl (Nat.le_of_ble_eq_true rfl) hl.1 dL_law_1004) (fun v151 h152 H locs cells slots hH hL hrun => ?_)
  refine lv_istore (i := 5) (lv' := [(5, .int v151), (0, .ref b), (1, rv x1), (2, rv x2), (3, rv x3), (4, .int x4)]) (pc := 1007) hx hb dL_law_1007 hl (by decide) rfl (fun ls hl => ?_)
  refine V_aload_n (pc := 1009) hx hb dL_law_1009 rfl (lv_at hl 3 rfl) ?_
  refine lv_aload_n (pc := 1010) hx hb dL_law_1010 rfl (lv_at hl 1 rfl) ?_
  refine lv_iload (pc := 1011) hx hb dL_law_1011 (lv_at hl 5 rfl) ?_
  refine lv_iconst (v := (1 : Int32)) (pc := 1013) hx hb dL_law_1013 (by decide) ?_
  refine lv_iadd (pc := 1014) hx hb dL_law_1014 ?_
  obtain ⟨c153, hrun⟩ := gd_some hrun
  refine V_sld (pc := 1015) C hH hS dL_law_1015 c153 ?_
  refine lv_aload_n (pc := 1016) hx hb dL_law_1016 rfl (lv_at hl 1 rfl) ?_
  refine lv_iload (pc := 1017) hx hb dL_law_1017 (lv_at hl 5 rfl) ?_
  refine lv_iconst (v := (2 : Int32)) (pc := 1019) hx hb dL_law_1019 (by decide) ?_
  refine lv_iadd (pc := 1020) hx hb dL_law_1020 ?_
  obtain ⟨c154, hrun⟩ := gd_some hrun
  refine V_sld (pc := 1021) C hH hS dL_law_1021 c154 ?_
  refine lv_if_eq (tgt := 1029) (pc := 1022) hx hb dL_law_1022 (by decide) (fun c_ => ?_) (fun c_ => ?_)
  · have hrun := ite_t hrun c_
    refine lv_iconst (v := (0 : Int32)) (pc := 1029) hx hb dL_law_1029 (by decide) ?_
    exact b_L_law_1030 C hok hS K23 x0 x1 x2 x3 x4 v151 x2 (xs ((x4 + (1 : Int32))).toNatClampNeg) (0 : Int32) h152 H locs cells slots ls hH hL (lv_sub hl [1, 2, 3, 4, 5, 0] rfl) hrun
  · have hrun := ite_f hrun c_
    refine lv_iconst (v := (1 : Int32)) (pc := 1025) hx hb dL_law_1025 (by decide) ?_
    refine lv_goto (tgt := 1030) (pc := 1026) hx hb dL_law_1026 (by decide) ?_
    exact b_L_law_1030 C hok hS K23 x0 x1 x2 x3 x4 v151 x2 (xs ((x4 + (1 : Int32))).toNatClampNeg) (1 : Int32) h152 H locs cells slots ls hH hL (lv_sub hl [1, 2, 3, 4, 5, 0] rfl) hrun

theorem b_L_law_982 {rr : (Int32 ⊕ Ex) × Hp} {k23 : Unit → Nat → Nat → Nat → Int32 → Hp → Rt Int32} {b L : Nat} {xs : Nat → Int32} {et9 : List (Nat × Nat × Nat × Nat)} (C : CX p l room_1 s m #[Value.ref b] meth c D s.heap cL_law "MassclaimLaw" 9 ret et9 8192 104096) (hok : rr.1 = .inl 1) (hS : va_X b L xs s s.heap ∧ b < s.heap.size) (K23 : ∀ (x0 : Unit) (x1 : Nat) (x2 : Nat) (x3 : Nat) (x4 : Int32) (h : Hp) (H : Heap) (locs : List Loc) (cells slots : Nat) (ls : Array Slot), HP D s.heap h H → LO s.heap locs → lv_has ls 9 [(0, .ref b), (1, rv x1), (2, rv x2), (3, rv x3), (4, .int x4)] → k23 x0 x1 x2 x3 x4 h = some rr → W p l e room_1 s m #[Value.ref b] below meth c H locs cells slots (lw_Z below #[Value.ref b] s) (F0 m 23 ls [])) : ∀ (x0 : Unit) (x1 : Nat) (x2 : Nat) (x3 : Nat) (x4 : Int32) (h : Hp) (H : Heap) (locs : List Loc) (cells slots : Nat) (ls : Array Slot), HP D s.heap h H → LO s.heap locs → lv_has ls 9 [(0, .ref b), (1, rv x1), (2, rv x2), (3, rv x3), (4, .int x4)] → f_L_law_982 L xs k23 x0 x1 x2 x3 x4 h = some rr → W p l e room_1 s m #[Value.ref b] below meth c H locs cells slots (lw_Z below #[Value.ref b] s) (F0 m 982 ls []) := by
  obtain ⟨⟨hx, hb, hml, hown, hts⟩, -⟩ := id C
  have hl9 := C.2.1.2.2.1
  intro x0 x1 x2 x3 x4 h H locs cells slots ls hH hL hl hrun
  unfold f_L_law_982 at hrun
  refine V_aload_n (pc := 982) hx hb dL_law_982 rfl (lv_at hl 1 rfl) ?_
  refine lv_aload_n (pc := 983) hx hb dL_law_983 rfl (lv_at hl 0 rfl) ?_
  refine lv_iload (pc := 984) hx hb dL_law_984 (lv_at hl 4 rfl) ?_
  refine lv_iconst (v := (1 : Int32)) (pc := 986) hx hb dL_law_986 (by decide) ?_
  refine lv_iadd (pc := 987) hx hb dL_law_987 ?_
  obtain ⟨c155, hrun⟩ := gd_some hrun
  refine V_sld (pc := 988) C hH hS dL_law_988 c155 ?_
  refine lv_aload_n (pc := 989) hx hb dL_law_989 rfl (lv_at hl 0 rfl) ?_
  refine lv_iload (pc := 990) hx hb dL_law_990 (lv_at hl 4 rfl) ?_
  refine lv_iconst (v := (2 : Int32)) (pc := 992) hx hb dL_law_992 (by decide) ?_
  refine lv_iadd (pc := 993) hx hb dL_law_993 ?_
  obtain ⟨c156, hrun⟩ := gd_some hrun
  refine V_sld (pc := 994) C hH hS dL_law_994 c156 ?_
  refine lv_if_eq (tgt := 1002) (pc := 995) hx hb dL_law_995 (by decide) (fun c_ => ?_) (fun c_ => ?_)
  · have hrun := ite_t hrun c_
    refine lv_iconst (v := (0 : Int32)) (pc := 1002) hx hb dL_law_1002 (by decide) ?_
    exact b_L_law_1003 C hok hS K23 x0 x1 x2 x3 x4 x1 (xs ((x4 + (1 : Int32))).toNatClampNeg) (0 : Int32) h H locs cells slots ls hH hL (lv_sub hl [0, 1, 2, 3, 4] rfl) hrun
  · have hrun := ite_f hrun c_
    refine lv_iconst (v := (1 : Int32)) (pc := 998) hx hb dL_law_998 (by decide) ?_
    refine lv_goto (tgt := 1003) (pc := 999) hx hb dL_law_999 (by decide) ?_
    exact b_L_law_1003 C hok hS K23 x0 x1 x2 x3 x4 x1 (xs ((x4 + (1 : Int32))).toNatClampNeg) (1 : Int32) h H locs cells slots ls hH hL (lv_sub hl [0, 1, 2, 3, 4] rfl) hrun

theorem b_L_law_1161 {rr : (Int32 ⊕ Ex) × Hp} {k23 : Unit → Nat → Nat → Nat → Int32 → Hp → Rt Int32} {b L : Nat} {xs : Nat → Int32} {et9 : List (Nat × Nat × Nat × Nat)} (C : CX p l room_1 s m #[Value.ref b] meth c D s.heap cL_law "MassclaimLaw" 9 ret et9 8192 104096) (hok : rr.1 = .inl 1) (hS : va_X b L xs s s.heap ∧ b < s.heap.size) (K23 : ∀ (x0 : Unit) (x1 : Nat) (x2 : Nat) (x3 : Nat) (x4 : Int32) (h : Hp) (H : Heap) (locs : List Loc) (cells slots : Nat) (ls : Array Slot), HP D s.heap h H → LO s.heap locs → lv_has ls 9 [(0, .ref b), (1, rv x1), (2, rv x2), (3, rv x3), (4, .int x4)] → k23 x0 x1 x2 x3 x4 h = some rr → W p l e room_1 s m #[Value.ref b] below meth c H locs cells slots (lw_Z below #[Value.ref b] s) (F0 m 23 ls [])) : ∀ (x0 : Unit) (x1 : Nat) (x2 : Nat) (x3 : Nat) (x4 : Int32) (h : Hp) (H : Heap) (locs : List Loc) (cells slots : Nat) (ls : Array Slot), HP D s.heap h H → LO s.heap locs → lv_has ls 9 [(0, .ref b), (1, rv x1), (2, rv x2), (3, rv x3), (4, .int x4)] → f_L_law_1161 L xs k23 x0 x1 x2 x3 x4 h = some rr → W p l e room_1 s m #[Value.ref b] below meth c H locs cells slots (lw_Z below #[Value.ref b] s) (F0 m 1161 ls []) := by
  obtain ⟨⟨hx, hb, hml, hown, hts⟩, -⟩ := id C
  have hl9 := C.2.1.2.2.1
  intro x0 x1 x2 x3 x4 h H locs cells slots ls hH hL hl hrun
  unfold f_L_law_1161 at hrun
  refine lv_goto (tgt := 3277) (pc := 1161) hx hb dL_law_1161 (by decide) ?_
  exact b_L_law_3277 C hok hS K23 x0 x1 x2 x3 x4 h H locs cells slots ls hH hL (lv_sub hl [0, 1, 2, 3, 4] rfl) hrun

theorem b_L_law_1155 {rr : (Int32 ⊕ Ex) × Hp} {k23 : Unit → Nat → Nat → Nat → Int32 → Hp → Rt Int32} {b L : Nat} {xs : Nat → Int32} {et9 : List (Nat × Nat × Nat × Nat)} (C : CX p l room_1 s m #[Value.ref b] meth c D s.heap cL_law "MassclaimLaw" 9 ret et9 8192 104096) (hok : rr.1 = .inl 1) (hS : va_X b L xs s s.heap ∧ b < s.heap.size) (K23 : ∀ (x0 : Unit) (x1 : Nat) (x2 : Nat) (x3 : Nat) (x4 : Int32) (h : Hp) (H : Heap) (locs : List Loc) (cells slots : Nat) (ls : Array Slot), HP D s.heap h H → LO s.heap locs → lv_has ls 9 [(0, .ref b), (1, rv x1), (2, rv x2), (3, rv x3), (4, .int x4)] → k23 x0 x1 x2 x3 x4 h = some rr → W p l e room_1 s m #[Value.ref b] below meth c H locs cells slots (lw_Z below #[Value.ref b] s) (F0 m 23 ls [])) : ∀ (x0 : Unit) (x1 : Nat) (x2 : Nat) (x3 : Nat) (x4 : Int32) (y0 : Int64) (y1 : Int64) (h : Hp) (H : Heap) (locs : List Loc) (cells slots : Nat) (ls : Array Slot), HP D s.heap h H → LO s.heap locs → lv_has ls 9 [(0, .ref b), (1, rv x1), (2, rv x2), (3, rv x3), (4, .int x4)] → f_L_law_1155 L xs k23 x0 x1 x2 x3 x4 y0 y1 h = some rr → W p l e room_1 s m #[Value.ref b] below meth c H locs cells slots (lw_Z below #[Value.ref b] s) (F0 m 1155 ls [.long y1, .long y0]) := by
  obtain ⟨⟨hx, hb, hml, hown, hts⟩, -⟩ := id C
  have hl9 := C.2.1.2.2.1
  intro x0 x1 x2 x3 x4 y0 y1 h H locs cells slots ls hH hL hl hrun
  unfold f_L_law_1155 at hrun
  refine V_lcmp_eq (tgt := 1161) (pc := 1155) hx hb dL_law_1155 dL_law_1156 (by decide) (fun c_ => ?_) (fun c_ => ?_)
  · have hrun := ite_t hrun c_
    exact b_L_law_1161 C hok hS K23 x0 x1 x2 x3 x4 h H locs cells slots ls hH hL (lv_sub hl [0, 1, 2, 3, 4] rfl) hrun
  · have hrun := ite_f hrun c_
    refine lv_iconst (v := (0 : Int32)) (pc := 1159) hx hb dL_law_1159 (by decide) ?_
    exact V_lawret (pc := 1160) C hH hL hok hrun dL_law_1160

theorem b_L_law_1121 {rr : (Int32 ⊕ Ex) × Hp} {k23 : Unit → Nat → Nat → Nat → Int32 → Hp → Rt Int32} {b L : Nat} {xs : Nat → Int32} {et9 : List (Nat × Nat × Nat × Nat)} (C : CX p l room_1 s m #[Value.ref b] meth c D s.heap cL_law "MassclaimLaw" 9 ret et9 8192 104096) (hok : rr.1 = .inl 1) (hS : va_X b L xs s s.heap ∧ b < s.heap.size) (K23 : ∀ (x0 : Unit) (x1 : Nat) (x2 : Nat) (x3 : Nat) (x4 : Int32) (h : Hp) (H : Heap) (locs : List Loc) (cells slots : Nat) (ls : Array Slot), HP D s.heap h H → LO s.heap locs → lv_has ls 9 [(0, .ref b), (1, rv x1), (2, rv x2), (3, rv x3), (4, .int x4)] → k23 x0 x1 x2 x3 x4 h = some rr → W p l e room_1 s m #[Value.ref b] below meth c H locs cells slots (lw_Z below #[Value.ref b] s) (F0 m 23 ls [])) : ∀ (x0 : Unit) (x1 : Nat) (x2 : Nat) (x3 : Nat) (x4 : Int32) (x5 : Int32) (y0 : Nat) (y1 : Int32) (y2 : Int32) (h : Hp) (H : Heap) (locs : List Loc) (cells slots : Nat) (ls : Array Slot), HP D s.heap h H → LO s.heap locs → lv_has ls 9 [(0, .ref b), (1, rv x1), (2, rv x2), (3, rv x3), (4, .int x4), (5, .int x5)] → f_L_law_1121 L xs k23 x0 x1 x2 x3 x4 x5 y0 y1 y2 h = some rr → W p l e room_1 s m #[Value.ref b] below meth c H locs cells slots (lw_Z below #[Value.ref b] s) (F0 m 1121 ls [.int y2, .int y1, rv y0]) := by
  obtain ⟨⟨hx, hb, hml, hown, hts⟩, -⟩ := id C
  have hl9 := C.2.1.2.2.1
  intro x0 x1 x2 x3 x4 x5 y0 y1 y2 h H locs cells slots ls hH hL hl hrun
  unfold f_L_law_1121 at hrun
  obtain ⟨c159, hrun⟩ := gd_some hrun
  refine V_bdN (pc := 1121) hL hrun (fun rr1 e1 => Z_runV (rest := []) C hH (m_X4_optOut hl9 e1) wV_X0_210 c159 rfl (by decide) rfl rfl ⟨by decide, by decide⟩ rfl (Nat.le_of_ble_eq_true rfl) hl.1 dL_law_1121) (fun v157 h158 H locs cells slots hH hL hrun => ?_)
  refine lv_istore (i := 6) (lv' := [(6, .int v157), (0, .ref b), (1, rv x1), (2, rv x2), (3, rv x3), (4, .int x4), (5, .int x5)]) (pc := 1124) hx hb dL_law_1124 hl (by decide) rfl (fun ls hl => ?_)
  refine V_aload_n (pc := 1126) hx hb dL_law_1126 rfl (lv_at hl 3 rfl) ?_
  obtain ⟨c162, hrun⟩ := gd_some hrun
  refine V_bdN (pc := 1127) hL hrun (fun rr1 e1 => Z_runV (rest := []) C hH (m_X4_thrown hl9 e1) wV_X0_170 c162 rfl (by decide) rfl rfl ⟨by decide, by decide⟩ rfl (Nat.le_of_ble_eq_true rfl) hl.1 dL_law_1127) (fun v160 h161 H locs cells slots hH hL hrun => ?_)
  refine lv_iload (pc := 1130) hx hb dL_law_1130 (lv_at hl 6 rfl) ?_
  refine lv_icmp_eq (tgt := 1137) (pc := 1132) hx hb dL_law_1132 (by decide) (fun c_ => ?_) (fun c_ => ?_)
  · have hrun := ite_t hrun c_
    refine lv_iload (pc := 1137) hx hb dL_law_1137 (lv_at hl 6 rfl) ?_
    refine lv_if_ne (tgt := 1161) (pc := 1139) hx hb dL_law_1139 (by decide) (fun c_ => ?_) (fun c_ => ?_)
    · have hrun := ite_f hrun c_
      exact b_L_law_1161 C hok hS K23 x0 x1 x2 x3 x4 h161 H locs cells slots ls hH hL (lv_sub hl [1, 2, 3, 4, 5] rfl) hrun
    · have hrun := ite_t hrun c_
      refine V_aload_n (pc := 1142) hx hb dL_law_1142 rfl (lv_at hl 4 rfl) ?_
      refine lv_iconst (v := (0 : Int32)) (pc := 1143) hx hb dL_law_1143 (by decide) ?_
      obtain ⟨c163, hrun⟩ := gd_some hrun
      refine V_lald (pc := 1144) C hH dL_law_1144 c163 ?_
      refine lv_iload (pc := 1145) hx hb dL_law_1145 (lv_at hl 0 rfl) ?_
      refine lv_if_eq (tgt := 1154) (pc := 1147) hx hb dL_law_1147 (by decide) (fun c_ => ?_) (fun c_ => ?_)
      · have hrun := ite_t hrun c_
        refine lv_lconst (v := (0 : Int64)) (pc := 1154) hx hb dL_law_1154 (by decide) ?_
        exact b_L_law_1155 C hok hS K23 x0 x1 x2 x3 x4 (jL h161 x3 ((0 : Int32)).toNatClampNeg) (0 : Int64) h161 H locs cells slots ls hH hL (lv_sub hl [1, 2, 3, 4, 5] rfl) hrun
      · have hrun := ite_f hrun c_
        refine lv_lconst (v := (1 : Int64)) (pc := 1150) hx hb dL_law_1150 (by decide) ?_
        refine lv_goto (tgt := 1155) (pc := 1151) hx hb dL_law_1151 (by decide) ?_
        exact b_L_law_1155 C hok hS K23 x0 x1 x2 x3 x4 (jL h161 x3 ((0 : Int32)).toNatClampNeg) (1 : Int64) h161 H locs cells slots ls hH hL (lv_sub hl [1, 2, 3, 4, 5] rfl) hrun
  · have hrun := ite_f hrun c_
    refine lv_iconst (v := (0 : Int32)) (pc := 1135) hx hb dL_law_1135 (by decide) ?_
    exact V_lawret (pc := 1136) C hH hL hok hrun dL_law_1136

theorem b_L_law_1094 {rr : (Int32 ⊕ Ex) × Hp} {k23 : Unit → Nat → Nat → Nat → Int32 → Hp → Rt Int32} {b L : Nat} {xs : Nat → Int32} {et9 : List (Nat × Nat × Nat × Nat)} (C : CX p l room_1 s m #[Value.ref b] meth c D s.heap cL_law "MassclaimLaw" 9 ret et9 8192 104096) (hok : rr.1 = .inl 1) (hS : va_X b L xs s s.heap ∧ b < s.heap.size) (K23 : ∀ (x0 : Unit) (x1 : Nat) (x2 : Nat) (x3 : Nat) (x4 : Int32) (h : Hp) (H : Heap) (locs : List Loc) (cells slots : Nat) (ls : Array Slot), HP D s.heap h H → LO s.heap locs → lv_has ls 9 [(0, .ref b), (1, rv x1), (2, rv x2), (3, rv x3), (4, .int x4)] → k23 x0 x1 x2 x3 x4 h = some rr → W p l e room_1 s m #[Value.ref b] below meth c H locs cells slots (lw_Z below #[Value.ref b] s) (F0 m 23 ls [])) : ∀ (x0 : Unit) (x1 : Nat) (x2 : Nat) (x3 : Nat) (x4 : Int32) (y0 : Nat) (y1 : Int32) (y2 : Int32) (h : Hp) (H : Heap) (locs : List Loc) (cells slots : Nat) (ls : Array Slot), HP D s.heap h H → LO s.heap locs → lv_has ls 9 [(0, .ref b), (1, rv x1), (2, rv x2), (3, rv x3), (4, .int x4)] → f_L_law_1094 L xs k23 x0 x1 x2 x3 x4 y0 y1 y2 h = some rr → W p l e room_1 s m #[Value.ref b] below meth c H locs cells slots (lw_Z below #[Value.ref b] s) (F0 m 1094 ls [.int y2, .int y1, rv y0]) := by
  obtain ⟨⟨hx, hb, hml, hown, hts⟩, -⟩ := id C
  have hl9 := C.2.1.2.2.1
  intro x0 x1 x2 x3 x4 y0 y1 y2 h H locs cells slots ls hH hL hl hrun
  unfold f_L_law_1094 at hrun
  refine V_aload_n (pc := 1094) hx hb dL_law_1094 rfl (lv_at hl 3 rfl) ?_
  refine V_bdN (pc := 1095) hL hrun (fun rr1 e1 => Z_runSH (rest := []) C hH (m_X0_optOut hl9 e1) wSH_X0_208 rfl ⟨by decide, by decide⟩ rfl (Nat.le_of_ble_eq_true rfl) hl.1 dL_law_1095) (fun v164 h165 H locs cells slots hH hL hrun => ?_)
  refine lv_istore (i := 5) (lv' := [(5, .int v164), (0, .ref b), (1, rv x1), (2, rv x2), (3, rv x3), (4, .int x4)]) (pc := 1098) hx hb dL_law_1098 hl (by decide) rfl (fun ls hl => ?_)
  refine V_aload_n (pc := 1100) hx hb dL_law_1100 rfl (lv_at hl 3 rfl) ?_
  refine lv_aload_n (pc := 1101) hx hb dL_law_1101 rfl (lv_at hl 1 rfl) ?_
  refine lv_iload (pc := 1102) hx hb dL_law_1102 (lv_at hl 5 rfl) ?_
  refine lv_iconst (v := (1 : Int32)) (pc := 1104) hx hb dL_law_1104 (by decide) ?_
  refine lv_iadd (pc := 1105) hx hb dL_law_1105 ?_
  obtain ⟨c166, hrun⟩ := gd_some hrun
  refine V_sld (pc := 1106) C hH hS dL_law_1106 c166 ?_
  refine lv_aload_n (pc := 1107) hx hb dL_law_1107 rfl (lv_at hl 1 rfl) ?_
  refine lv_iload (pc := 1108) hx hb dL_law_1108 (lv_at hl 5 rfl) ?_
  refine lv_iconst (v := (2 : Int32)) (pc := 1110) hx hb dL_law_1110 (by decide) ?_
  refine lv_iadd (pc := 1111) hx hb dL_law_1111 ?_
  obtain ⟨c167, hrun⟩ := gd_some hrun
  refine V_sld (pc := 1112) C hH hS dL_law_1112 c167 ?_
  refine lv_if_eq (tgt := 1120) (pc := 1113) hx hb dL_law_1113 (by decide) (fun c_ => ?_) (fun c_ => ?_)
  · have hrun := ite_t hrun c_
    refine lv_iconst (v := (0 : Int32)) (pc := 1120) hx hb dL_law_1120 (by decide) ?_
    exact b_L_law_1121 C hok hS K23 x0 x1 x2 x3 x4 v164 x2 (xs ((x4 + (1 : Int32))).toNatClampNeg) (0 : Int32) h165 H locs cells slots ls hH hL (lv_sub hl [1, 2, 3, 4, 5, 0] rfl) hrun
  · have hrun := ite_f hrun c_
    refine lv_iconst (v := (1 : Int32)) (pc := 1116) hx hb dL_law_1116 (by decide) ?_
    refine lv_goto (tgt := 1121) (pc := 1117) hx hb dL_law_1117 (by decide) ?_
    exact b_L_law_1121 C hok hS K23 x0 x1 x2 x3 x4 v164 x2 (xs ((x4 + (1 : Int32))).toNatClampNeg) (1 : Int32) h165 H locs cells slots ls hH hL (lv_sub hl [1, 2, 3, 4, 5, 0] rfl) hrun

theorem b_L_law_1073 {rr : (Int32 ⊕ Ex) × Hp} {k23 : Unit → Nat → Nat → Nat → Int32 → Hp → Rt Int32} {b L : Nat} {xs : Nat → Int32} {et9 : List (Nat × Nat × Nat × Nat)} (C : CX p l room_1 s m #[Value.ref b] meth c D s.heap cL_law "MassclaimLaw" 9 ret et9 8192 104096) (hok : rr.1 = .inl 1) (hS : va_X b L xs s s.heap ∧ b < s.heap.size) (K23 : ∀ (x0 : Unit) (x1 : Nat) (x2 : Nat) (x3 : Nat) (x4 : Int32) (h : Hp) (H : Heap) (locs : List Loc) (cells slots : Nat) (ls : Array Slot), HP D s.heap h H → LO s.heap locs → lv_has ls 9 [(0, .ref b), (1, rv x1), (2, rv x2), (3, rv x3), (4, .int x4)] → k23 x0 x1 x2 x3 x4 h = some rr → W p l e room_1 s m #[Value.ref b] below meth c H locs cells slots (lw_Z below #[Value.ref b] s) (F0 m 23 ls [])) : ∀ (x0 : Unit) (x1 : Nat) (x2 : Nat) (x3 : Nat) (x4 : Int32) (h : Hp) (H : Heap) (locs : List Loc) (cells slots : Nat) (ls : Array Slot), HP D s.heap h H → LO s.heap locs → lv_has ls 9 [(0, .ref b), (1, rv x1), (2, rv x2), (3, rv x3), (4, .int x4)] → f_L_law_1073 L xs k23 x0 x1 x2 x3 x4 h = some rr → W p l e room_1 s m #[Value.ref b] below meth c H locs cells slots (lw_Z below #[Value.ref b] s) (F0 m 1073 ls []) := by
  obtain ⟨⟨hx, hb, hml, hown, hts⟩, -⟩ := id C
  have hl9 := C.2.1.2.2.1
  intro x0 x1 x2 x3 x4 h H locs cells slots ls hH hL hl hrun
  unfold f_L_law_1073 at hrun
  refine V_aload_n (pc := 1073) hx hb dL_law_1073 rfl (lv_at hl 1 rfl) ?_
  refine lv_aload_n (pc := 1074) hx hb dL_law_1074 rfl (lv_at hl 0 rfl) ?_
  refine lv_iload (pc := 1075) hx hb dL_law_1075 (lv_at hl 4 rfl) ?_
  refine lv_iconst (v := (1 : Int32)) (pc := 1077) hx hb dL_law_1077 (by decide) ?_
  refine lv_iadd (pc := 1078) hx hb dL_law_1078 ?_
  obtain ⟨c168, hrun⟩ := gd_some hrun
  refine V_sld (pc := 1079) C hH hS dL_law_1079 c168 ?_
  refine lv_aload_n (pc := 1080) hx hb dL_law_1080 rfl (lv_at hl 0 rfl) ?_
  refine lv_iload (pc := 1081) hx hb dL_law_1081 (lv_at hl 4 rfl) ?_
  refine lv_iconst (v := (2 : Int32)) (pc := 1083) hx hb dL_law_1083 (by decide) ?_
  refine lv_iadd (pc := 1084) hx hb dL_law_1084 ?_
  obtain ⟨c169, hrun⟩ := gd_some hrun
  refine V_sld (pc := 1085) C hH hS dL_law_1085 c169 ?_
  refine lv_if_eq (tgt := 1093) (pc := 1086) hx hb dL_law_1086 (by decide) (fun c_ => ?_) (fun c_ => ?_)
  · have hrun := ite_t hrun c_
    refine lv_iconst (v := (0 : Int32)) (pc := 1093) hx hb dL_law_1093 (by decide) ?_
    exact b_L_law_1094 C hok hS K23 x0 x1 x2 x3 x4 x1 (xs ((x4 + (1 : Int32))).toNatClampNeg) (0 : Int32) h H locs cells slots ls hH hL (lv_sub hl [0, 1, 2, 3, 4] rfl) hrun
  · have hrun := ite_f hrun c_
    refine lv_iconst (v := (1 : Int32)) (pc := 1089) hx hb dL_law_1089 (by decide) ?_
    refine lv_goto (tgt := 1094) (pc := 1090) hx hb dL_law_1090 (by decide) ?_
    exact b_L_law_1094 C hok hS K23 x0 x1 x2 x3 x4 x1 (xs ((x4 + (1 : Int32))).toNatClampNeg) (1 : Int32) h H locs cells slots ls hH hL (lv_sub hl [0, 1, 2, 3, 4] rfl) hrun

theorem b_L_law_1224 {rr : (Int32 ⊕ Ex) × Hp} {k23 : Unit → Nat → Nat → Nat → Int32 → Hp → Rt Int32} {b L : Nat} {xs : Nat → Int32} {et9 : List (Nat × Nat × Nat × Nat)} (C : CX p l room_1 s m #[Value.ref b] meth c D s.heap cL_law "MassclaimLaw" 9 ret et9 8192 104096) (hok : rr.1 = .inl 1) (hS : va_X b L xs s s.heap ∧ b < s.heap.size) (K23 : ∀ (x0 : Unit) (x1 : Nat) (x2 : Nat) (x3 : Nat) (x4 : Int32) (h : Hp) (H : Heap) (locs : List Loc) (cells slots : Nat) (ls : Array Slot), HP D s.heap h H → LO s.heap locs → lv_has ls 9 [(0, .ref b), (1, rv x1), (2, rv x2), (3, rv x3), (4, .int x4)] → k23 x0 x1 x2 x3 x4 h = some rr → W p l e room_1 s m #[Value.ref b] below meth c H locs cells slots (lw_Z below #[Value.ref b] s) (F0 m 23 ls [])) : ∀ (x0 : Unit) (x1 : Nat) (x2 : Nat) (x3 : Nat) (x4 : Int32) (h : Hp) (H : Heap) (locs : List Loc) (cells slots : Nat) (ls : Array Slot), HP D s.heap h H → LO s.heap locs → lv_has ls 9 [(0, .ref b), (1, rv x1), (2, rv x2), (3, rv x3), (4, .int x4)] → f_L_law_1224 L xs k23 x0 x1 x2 x3 x4 h = some rr → W p l e room_1 s m #[Value.ref b] below meth c H locs cells slots (lw_Z below #[Value.ref b] s) (F0 m 1224 ls []) := by
  obtain ⟨⟨hx, hb, hml, hown, hts⟩, -⟩ := id C
  have hl9 := C.2.1.2.2.1
  intro x0 x1 x2 x3 x4 h H locs cells slots ls hH hL hl hrun
  unfold f_L_law_1224 at hrun
  refine lv_goto (tgt := 3277) (pc := 1224) hx hb dL_law_1224 (by decide) ?_
  exact b_L_law_3277 C hok hS K23 x0 x1 x2 x3 x4 h H locs cells slots ls hH hL (lv_sub hl [0, 1, 2, 3, 4] rfl) hrun

theorem b_L_law_1218 {rr : (Int32 ⊕ Ex) × Hp} {k23 : Unit → Nat → Nat → Nat → Int32 → Hp → Rt Int32} {b L : Nat} {xs : Nat → Int32} {et9 : List (Nat × Nat × Nat × Nat)} (C : CX p l room_1 s m #[Value.ref b] meth c D s.heap cL_law "MassclaimLaw" 9 ret et9 8192 104096) (hok : rr.1 = .inl 1) (hS : va_X b L xs s s.heap ∧ b < s.heap.size) (K23 : ∀ (x0 : Unit) (x1 : Nat) (x2 : Nat) (x3 : Nat) (x4 : Int32) (h : Hp) (H : Heap) (locs : List Loc) (cells slots : Nat) (ls : Array Slot), HP D s.heap h H → LO s.heap locs → lv_has ls 9 [(0, .ref b), (1, rv x1), (2, rv x2), (3, rv x3), (4, .int x4)] → k23 x0 x1 x2 x3 x4 h = some rr → W p l e room_1 s m #[Value.ref b] below meth c H locs cells slots (lw_Z below #[Value.ref b] s) (F0 m 23 ls [])) : ∀ (x0 : Unit) (x1 : Nat) (x2 : Nat) (x3 : Nat) (x4 : Int32) (y0 : Int64) (y1 : Int64) (h : Hp) (H : Heap) (locs : List Loc) (cells slots : Nat) (ls : Array Slot), HP D s.heap h H → LO s.heap locs → lv_has ls 9 [(0, .ref b), (1, rv x1), (2, rv x2), (3, rv x3), (4, .int x4)] → f_L_law_1218 L xs k23 x0 x1 x2 x3 x4 y0 y1 h = some rr → W p l e room_1 s m #[Value.ref b] below meth c H locs cells slots (lw_Z below #[Value.ref b] s) (F0 m 1218 ls [.long y1, .long y0]) := by
  obtain ⟨⟨hx, hb, hml, hown, hts⟩, -⟩ := id C
  have hl9 := C.2.1.2.2.1
  intro x0 x1 x2 x3 x4 y0 y1 h H locs cells slots ls hH hL hl hrun
  unfold f_L_law_1218 at hrun
  refine V_lcmp_eq (tgt := 1224) (pc := 1218) hx hb dL_law_1218 dL_law_1219 (by decide) (fun c_ => ?_) (fun c_ => ?_)
  · have hrun := ite_t hrun c_
    exact b_L_law_1224 C hok hS K23 x0 x1 x2 x3 x4 h H locs cells slots ls hH hL (lv_sub hl [0, 1, 2, 3, 4] rfl) hrun
  · have hrun := ite_f hrun c_
    refine lv_iconst (v := (0 : Int32)) (pc := 1222) hx hb dL_law_1222 (by decide) ?_
    exact V_lawret (pc := 1223) C hH hL hok hrun dL_law_1223

theorem b_L_law_1164 {rr : (Int32 ⊕ Ex) × Hp} {k23 : Unit → Nat → Nat → Nat → Int32 → Hp → Rt Int32} {b L : Nat} {xs : Nat → Int32} {et9 : List (Nat × Nat × Nat × Nat)} (C : CX p l room_1 s m #[Value.ref b] meth c D s.heap cL_law "MassclaimLaw" 9 ret et9 8192 104096) (hok : rr.1 = .inl 1) (hS : va_X b L xs s s.heap ∧ b < s.heap.size) (K23 : ∀ (x0 : Unit) (x1 : Nat) (x2 : Nat) (x3 : Nat) (x4 : Int32) (h : Hp) (H : Heap) (locs : List Loc) (cells slots : Nat) (ls : Array Slot), HP D s.heap h H → LO s.heap locs → lv_has ls 9 [(0, .ref b), (1, rv x1), (2, rv x2), (3, rv x3), (4, .int x4)] → k23 x0 x1 x2 x3 x4 h = some rr → W p l e room_1 s m #[Value.ref b] below meth c H locs cells slots (lw_Z below #[Value.ref b] s) (F0 m 23 ls [])) : ∀ (x0 : Unit) (x1 : Nat) (x2 : Nat) (x3 : Nat) (x4 : Int32) (h : Hp) (H : Heap) (locs : List Loc) (cells slots : Nat) (ls : Array Slot), HP D s.heap h H → LO s.heap locs → lv_has ls 9 [(0, .ref b), (1, rv x1), (2, rv x2), (3, rv x3), (4, .int x4)] → f_L_law_1164 L xs k23 x0 x1 x2 x3 x4 h = some rr → W p l e room_1 s m #[Value.ref b] below meth c H locs cells slots (lw_Z below #[Value.ref b] s) (F0 m 1164 ls []) := by
  obtain ⟨⟨hx, hb, hml, hown, hts⟩, -⟩ := id C
  have hl9 := C.2.1.2.2.1
  intro x0 x1 x2 x3 x4 h H locs cells slots ls hH hL hl hrun
  unfold f_L_law_1164 at hrun
  refine V_aload_n (pc := 1164) hx hb dL_law_1164 rfl (lv_at hl 1 rfl) ?_
  refine lv_aload_n (pc := 1165) hx hb dL_law_1165 rfl (lv_at hl 0 rfl) ?_
  refine lv_iload (pc := 1166) hx hb dL_law_1166 (lv_at hl 4 rfl) ?_
  refine lv_iconst (v := (1 : Int32)) (pc := 1168) hx hb dL_law_1168 (by decide) ?_
  refine lv_iadd (pc := 1169) hx hb dL_law_1169 ?_
  obtain ⟨c170, hrun⟩ := gd_some hrun
  refine V_sld (pc := 1170) C hH hS dL_law_1170 c170 ?_
  refine V_aload_n (pc := 1171) hx hb dL_law_1171 rfl (lv_at hl 3 rfl) ?_
  refine V_bdN (pc := 1172) hL hrun (fun rr1 e1 => Z_runSH (rest := []) C hH (m_X0_optIn hl9 e1) wSH_X0_211 rfl ⟨by decide, by decide⟩ rfl (Nat.le_of_ble_eq_true rfl) hl.1 dL_law_1172) (fun v171 h172 H locs cells slots hH hL hrun => ?_)
  refine lv_istore (i := 5) (lv' := [(5, .int v171), (0, .ref b), (1, rv x1), (2, rv x2), (3, rv x3), (4, .int x4)]) (pc := 1175) hx hb dL_law_1175 hl (by decide) rfl (fun ls hl => ?_)
  refine V_aload_n (pc := 1177) hx hb dL_law_1177 rfl (lv_at hl 3 rfl) ?_
  refine lv_aload_n (pc := 1178) hx hb dL_law_1178 rfl (lv_at hl 1 rfl) ?_
  refine lv_iload (pc := 1179) hx hb dL_law_1179 (lv_at hl 5 rfl) ?_
  refine lv_iconst (v := (1 : Int32)) (pc := 1181) hx hb dL_law_1181 (by decide) ?_
  refine lv_iadd (pc := 1182) hx hb dL_law_1182 ?_
  obtain ⟨c173, hrun⟩ := gd_some hrun
  refine V_sld (pc := 1183) C hH hS dL_law_1183 c173 ?_
  obtain ⟨c176, hrun⟩ := gd_some hrun
  refine V_bdN (pc := 1184) hL hrun (fun rr1 e1 => Z_runV (rest := []) C hH (m_X4_optIn hl9 e1) wV_X0_213 c176 rfl (by decide) rfl rfl ⟨by decide, by decide⟩ rfl (Nat.le_of_ble_eq_true rfl) hl.1 dL_law_1184) (fun v174 h175 H locs cells slots hH hL hrun => ?_)
  refine lv_istore (i := 6) (lv' := [(6, .int v174), (5, .int v171), (0, .ref b), (1, rv x1), (2, rv x2), (3, rv x3), (4, .int x4)]) (pc := 1187) hx hb dL_law_1187 hl (by decide) rfl (fun ls hl => ?_)
  refine V_aload_n (pc := 1189) hx hb dL_law_1189 rfl (lv_at hl 4 rfl) ?_
  obtain ⟨c179, hrun⟩ := gd_some hrun
  refine V_bdN (pc := 1190) hL hrun (fun rr1 e1 => Z_runV (rest := []) C hH (m_X4_thrown hl9 e1) wV_X0_170 c179 rfl (by decide) rfl rfl ⟨by decide, by decide⟩ rfl (Nat.le_of_ble_eq_true rfl) hl.1 dL_law_1190) (fun v177 h178 H locs cells slots hH hL hrun => ?_)
  refine lv_iload (pc := 1193) hx hb dL_law_1193 (lv_at hl 1 rfl) ?_
  refine lv_icmp_eq (tgt := 1200) (pc := 1195) hx hb dL_law_1195 (by decide) (fun c_ => ?_) (fun c_ => ?_)
  · have hrun := ite_t hrun c_
    refine lv_iload (pc := 1200) hx hb dL_law_1200 (lv_at hl 1 rfl) ?_
    refine lv_if_ne (tgt := 1224) (pc := 1202) hx hb dL_law_1202 (by decide) (fun c_ => ?_) (fun c_ => ?_)
    · have hrun := ite_f hrun c_
      exact b_L_law_1224 C hok hS K23 x0 x1 x2 x3 x4 h178 H locs cells slots ls hH hL (lv_sub hl [2, 3, 4, 5, 6] rfl) hrun
    · have hrun := ite_t hrun c_
      refine V_aload_n (pc := 1205) hx hb dL_law_1205 rfl (lv_at hl 5 rfl) ?_
      refine lv_iconst (v := (0 : Int32)) (pc := 1206) hx hb dL_law_1206 (by decide) ?_
      obtain ⟨c180, hrun⟩ := gd_some hrun
      refine V_lald (pc := 1207) C hH dL_law_1207 c180 ?_
      refine lv_iload (pc := 1208) hx hb dL_law_1208 (lv_at hl 0 rfl) ?_
      refine lv_if_eq (tgt := 1217) (pc := 1210) hx hb dL_law_1210 (by decide) (fun c_ => ?_) (fun c_ => ?_)
      · have hrun := ite_t hrun c_
        refine lv_lconst (v := (0 : Int64)) (pc := 1217) hx hb dL_law_1217 (by decide) ?_
        exact b_L_law_1218 C hok hS K23 x0 x1 x2 x3 x4 (jL h178 x3 ((0 : Int32)).toNatClampNeg) (0 : Int64) h178 H locs cells slots ls hH hL (lv_sub hl [2, 3, 4, 5, 6] rfl) hrun
      · have hrun := ite_f hrun c_
        refine lv_lconst (v := (1 : Int64)) (pc := 1213) hx hb dL_law_1213 (by decide) ?_
        refine lv_goto (tgt := 1218) (pc := 1214) hx hb dL_law_1214 (by decide) ?_
        exact b_L_law_1218 C hok hS K23 x0 x1 x2 x3 x4 (jL h178 x3 ((0 : Int32)).toNatClampNeg) (1 : Int64) h178 H locs cells slots ls hH hL (lv_sub hl [2, 3, 4, 5, 6] rfl) hrun
  · have hrun := ite_f hrun c_
    refine lv_iconst (v := (0 : Int32)) (pc := 1198) hx hb dL_law_1198 (by decide) ?_
    exact V_lawret (pc := 1199) C hH hL hok hrun dL_law_1199

theorem b_L_law_1280 {rr : (Int32 ⊕ Ex) × Hp} {k23 : Unit → Nat → Nat → Nat → Int32 → Hp → Rt Int32} {b L : Nat} {xs : Nat → Int32} {et9 : List (Nat × Nat × Nat × Nat)} (C : CX p l room_1 s m #[Value.ref b] meth c D s.heap cL_law "MassclaimLaw" 9 ret et9 8192 104096) (hok : rr.1 = .inl 1) (hS : va_X b L xs s s.heap ∧ b < s.heap.size) (K23 : ∀ (x0 : Unit) (x1 : Nat) (x2 : Nat) (x3 : Nat) (x4 : Int32) (h : Hp) (H : Heap) (locs : List Loc) (cells slots : Nat) (ls : Array Slot), HP D s.heap h H → LO s.heap locs → lv_has ls 9 [(0, .ref b), (1, rv x1), (2, rv x2), (3, rv x3), (4, .int x4)] → k23 x0 x1 x2 x3 x4 h = some rr → W p l e room_1 s m #[Value.ref b] below meth c H locs cells slots (lw_Z below #[Value.ref b] s) (F0 m 23 ls [])) : ∀ (x0 : Unit) (x1 : Nat) (x2 : Nat) (x3 : Nat) (x4 : Int32) (h : Hp) (H : Heap) (locs : List Loc) (cells slots : Nat) (ls : Array Slot), HP D s.heap h H → LO s.heap locs → lv_has ls 9 [(0, .ref b), (1, rv x1), (2, rv x2), (3, rv x3), (4, .int x4)] → f_L_law_1280 L xs k23 x0 x1 x2 x3 x4 h = some rr → W p l e room_1 s m #[Value.ref b] below meth c H locs cells slots (lw_Z below #[Value.ref b] s) (F0 m 1280 ls []) := by
  obtain ⟨⟨hx, hb, hml, hown, hts⟩, -⟩ := id C
  have hl9 := C.2.1.2.2.1
  intro x0 x1 x2 x3 x4 h H locs cells slots ls hH hL hl hrun
  unfold f_L_law_1280 at hrun
  refine lv_goto (tgt := 3277) (pc := 1280) hx hb dL_law_1280 (by decide) ?_
  exact b_L_law_3277 C hok hS K23 x0 x1 x2 x3 x4 h H locs cells slots ls hH hL (lv_sub hl [0, 1, 2, 3, 4] rfl) hrun

theorem b_L_law_1227 {rr : (Int32 ⊕ Ex) × Hp} {k23 : Unit → Nat → Nat → Nat → Int32 → Hp → Rt Int32} {b L : Nat} {xs : Nat → Int32} {et9 : List (Nat × Nat × Nat × Nat)} (C : CX p l room_1 s m #[Value.ref b] meth c D s.heap cL_law "MassclaimLaw" 9 ret et9 8192 104096) (hok : rr.1 = .inl 1) (hS : va_X b L xs s s.heap ∧ b < s.heap.size) (K23 : ∀ (x0 : Unit) (x1 : Nat) (x2 : Nat) (x3 : Nat) (x4 : Int32) (h : Hp) (H : Heap) (locs : List Loc) (cells slots : Nat) (ls : Array Slot), HP D s.heap h H → LO s.heap locs → lv_has ls 9 [(0, .ref b), (1, rv x1), (2, rv x2), (3, rv x3), (4, .int x4)] → k23 x0 x1 x2 x3 x4 h = some rr → W p l e room_1 s m #[Value.ref b] below meth c H locs cells slots (lw_Z below #[Value.ref b] s) (F0 m 23 ls [])) : ∀ (x0 : Unit) (x1 : Nat) (x2 : Nat) (x3 : Nat) (x4 : Int32) (h : Hp) (H : Heap) (locs : List Loc) (cells slots : Nat) (ls : Array Slot), HP D s.heap h H → LO s.heap locs → lv_has ls 9 [(0, .ref b), (1, rv x1), (2, rv x2), (3, rv x3), (4, .int x4)] → f_L_law_1227 L xs k23 x0 x1 x2 x3 x4 h = some rr → W p l e room_1 s m #[Value.ref b] below meth c H locs cells slots (lw_Z below #[Value.ref b] s) (F0 m 1227 ls []) := by
  obtain ⟨⟨hx, hb, hml, hown, hts⟩, -⟩ := id C
  have hl9 := C.2.1.2.2.1
  intro x0 x1 x2 x3 x4 h H locs cells slots ls hH hL hl hrun
  unfold f_L_law_1227 at hrun
  refine V_aload_n (pc := 1227) hx hb dL_law_1227 rfl (lv_at hl 1 rfl) ?_
  refine lv_aload_n (pc := 1228) hx hb dL_law_1228 rfl (lv_at hl 0 rfl) ?_
  refine lv_iload (pc := 1229) hx hb dL_law_1229 (lv_at hl 4 rfl) ?_
  refine lv_iconst (v := (1 : Int32)) (pc := 1231) hx hb dL_law_1231 (by decide) ?_
  refine lv_iadd (pc := 1232) hx hb dL_law_1232 ?_
  obtain ⟨c181, hrun⟩ := gd_some hrun
  refine V_sld (pc := 1233) C hH hS dL_law_1233 c181 ?_
  refine V_aload_n (pc := 1234) hx hb dL_law_1234 rfl (lv_at hl 3 rfl) ?_
  refine V_bdN (pc := 1235) hL hrun (fun rr1 e1 => Z_runSH (rest := []) C hH (m_X0_draw hl9 e1) wSH_X0_214 rfl ⟨by decide, by decide⟩ rfl (Nat.le_of_ble_eq_true rfl) hl.1 dL_law_1235) (fun v182 h183 H locs cells slots hH hL hrun => ?_)
  refine lv_istore (i := 5) (lv' := [(5, .int v182), (0, .ref b), (1, rv x1), (2, rv x2), (3, rv x3), (4, .int x4)]) (pc := 1238) hx hb dL_law_1238 hl (by decide) rfl (fun ls hl => ?_)
  refine V_aload_n (pc := 1240) hx hb dL_law_1240 rfl (lv_at hl 3 rfl) ?_
  refine lv_aload_n (pc := 1241) hx hb dL_law_1241 rfl (lv_at hl 1 rfl) ?_
  refine lv_iload (pc := 1242) hx hb dL_law_1242 (lv_at hl 5 rfl) ?_
  refine lv_iconst (v := (1 : Int32)) (pc := 1244) hx hb dL_law_1244 (by decide) ?_
  refine lv_iadd (pc := 1245) hx hb dL_law_1245 ?_
  obtain ⟨c184, hrun⟩ := gd_some hrun
  refine V_sld (pc := 1246) C hH hS dL_law_1246 c184 ?_
  obtain ⟨c187, hrun⟩ := gd_some hrun
  refine V_bdN (pc := 1247) hL hrun (fun rr1 e1 => Z_runV (rest := []) C hH (m_X4_draw hl9 e1) wV_X0_216 c187 rfl (by decide) rfl rfl ⟨by decide, by decide⟩ rfl (Nat.le_of_ble_eq_true rfl) hl.1 dL_law_1247) (fun v185 h186 H locs cells slots hH hL hrun => ?_)
  refine lv_istore (i := 6) (lv' := [(6, .int v185), (5, .int v182), (0, .ref b), (1, rv x1), (2, rv x2), (3, rv x3), (4, .int x4)]) (pc := 1250) hx hb dL_law_1250 hl (by decide) rfl (fun ls hl => ?_)
  refine V_aload_n (pc := 1252) hx hb dL_law_1252 rfl (lv_at hl 4 rfl) ?_
  obtain ⟨c190, hrun⟩ := gd_some hrun
  refine V_bdN (pc := 1253) hL hrun (fun rr1 e1 => Z_runV (rest := []) C hH (m_X4_thrown hl9 e1) wV_X0_170 c190 rfl (by decide) rfl rfl ⟨by decide, by decide⟩ rfl (Nat.le_of_ble_eq_true rfl) hl.1 dL_law_1253) (fun v188 h189 H locs cells slots hH hL hrun => ?_)
  refine lv_iload (pc := 1256) hx hb dL_law_1256 (lv_at hl 1 rfl) ?_
  refine lv_icmp_eq (tgt := 1263) (pc := 1258) hx hb dL_law_1258 (by decide) (fun c_ => ?_) (fun c_ => ?_)
  · have hrun := ite_t hrun c_
    refine lv_iload (pc := 1263) hx hb dL_law_1263 (lv_at hl 1 rfl) ?_
    refine lv_if_ne (tgt := 1280) (pc := 1265) hx hb dL_law_1265 (by decide) (fun c_ => ?_) (fun c_ => ?_)
    · have hrun := ite_f hrun c_
      exact b_L_law_1280 C hok hS K23 x0 x1 x2 x3 x4 h189 H locs cells slots ls hH hL (lv_sub hl [2, 3, 4, 5, 6] rfl) hrun
    · have hrun := ite_t hrun c_
      refine V_aload_n (pc := 1268) hx hb dL_law_1268 rfl (lv_at hl 5 rfl) ?_
      refine lv_iconst (v := (0 : Int32)) (pc := 1269) hx hb dL_law_1269 (by decide) ?_
      obtain ⟨c191, hrun⟩ := gd_some hrun
      refine V_lald (pc := 1270) C hH dL_law_1270 c191 ?_
      refine lv_iload (pc := 1271) hx hb dL_law_1271 (lv_at hl 0 rfl) ?_
      refine lv_i2l (pc := 1273) hx hb dL_law_1273 rfl ?_
      refine V_lcmp_eq (tgt := 1280) (pc := 1274) hx hb dL_law_1274 dL_law_1275 (by decide) (fun c_ => ?_) (fun c_ => ?_)
      · have hrun := ite_t hrun c_
        exact b_L_law_1280 C hok hS K23 x0 x1 x2 x3 x4 h189 H locs cells slots ls hH hL (lv_sub hl [2, 3, 4, 5, 6] rfl) hrun
      · have hrun := ite_f hrun c_
        refine lv_iconst (v := (0 : Int32)) (pc := 1278) hx hb dL_law_1278 (by decide) ?_
        exact V_lawret (pc := 1279) C hH hL hok hrun dL_law_1279
  · have hrun := ite_f hrun c_
    refine lv_iconst (v := (0 : Int32)) (pc := 1261) hx hb dL_law_1261 (by decide) ?_
    exact V_lawret (pc := 1262) C hH hL hok hrun dL_law_1262

theorem b_L_law_1348 {rr : (Int32 ⊕ Ex) × Hp} {k23 : Unit → Nat → Nat → Nat → Int32 → Hp → Rt Int32} {b L : Nat} {xs : Nat → Int32} {et9 : List (Nat × Nat × Nat × Nat)} (C : CX p l room_1 s m #[Value.ref b] meth c D s.heap cL_law "MassclaimLaw" 9 ret et9 8192 104096) (hok : rr.1 = .inl 1) (hS : va_X b L xs s s.heap ∧ b < s.heap.size) (K23 : ∀ (x0 : Unit) (x1 : Nat) (x2 : Nat) (x3 : Nat) (x4 : Int32) (h : Hp) (H : Heap) (locs : List Loc) (cells slots : Nat) (ls : Array Slot), HP D s.heap h H → LO s.heap locs → lv_has ls 9 [(0, .ref b), (1, rv x1), (2, rv x2), (3, rv x3), (4, .int x4)] → k23 x0 x1 x2 x3 x4 h = some rr → W p l e room_1 s m #[Value.ref b] below meth c H locs cells slots (lw_Z below #[Value.ref b] s) (F0 m 23 ls [])) : ∀ (x0 : Unit) (x1 : Nat) (x2 : Nat) (x3 : Nat) (x4 : Int32) (h : Hp) (H : Heap) (locs : List Loc) (cells slots : Nat) (ls : Array Slot), HP D s.heap h H → LO s.heap locs → lv_has ls 9 [(0, .ref b), (1, rv x1), (2, rv x2), (3, rv x3), (4, .int x4)] → f_L_law_1348 L xs k23 x0 x1 x2 x3 x4 h = some rr → W p l e room_1 s m #[Value.ref b] below meth c H locs cells slots (lw_Z below #[Value.ref b] s) (F0 m 1348 ls []) := by
  obtain ⟨⟨hx, hb, hml, hown, hts⟩, -⟩ := id C
  have hl9 := C.2.1.2.2.1
  intro x0 x1 x2 x3 x4 h H locs cells slots ls hH hL hl hrun
  unfold f_L_law_1348 at hrun
  refine lv_goto (tgt := 3277) (pc := 1348) hx hb dL_law_1348 (by decide) ?_
  exact b_L_law_3277 C hok hS K23 x0 x1 x2 x3 x4 h H locs cells slots ls hH hL (lv_sub hl [0, 1, 2, 3, 4] rfl) hrun

theorem b_L_law_1283 {rr : (Int32 ⊕ Ex) × Hp} {k23 : Unit → Nat → Nat → Nat → Int32 → Hp → Rt Int32} {b L : Nat} {xs : Nat → Int32} {et9 : List (Nat × Nat × Nat × Nat)} (C : CX p l room_1 s m #[Value.ref b] meth c D s.heap cL_law "MassclaimLaw" 9 ret et9 8192 104096) (hok : rr.1 = .inl 1) (hS : va_X b L xs s s.heap ∧ b < s.heap.size) (K23 : ∀ (x0 : Unit) (x1 : Nat) (x2 : Nat) (x3 : Nat) (x4 : Int32) (h : Hp) (H : Heap) (locs : List Loc) (cells slots : Nat) (ls : Array Slot), HP D s.heap h H → LO s.heap locs → lv_has ls 9 [(0, .ref b), (1, rv x1), (2, rv x2), (3, rv x3), (4, .int x4)] → k23 x0 x1 x2 x3 x4 h = some rr → W p l e room_1 s m #[Value.ref b] below meth c H locs cells slots (lw_Z below #[Value.ref b] s) (F0 m 23 ls [])) : ∀ (x0 : Unit) (x1 : Nat) (x2 : Nat) (x3 : Nat) (x4 : Int32) (h : Hp) (H : Heap) (locs : List Loc) (cells slots : Nat) (ls : Array Slot), HP D s.heap h H → LO s.heap locs → lv_has ls 9 [(0, .ref b), (1, rv x1), (2, rv x2), (3, rv x3), (4, .int x4)] → f_L_law_1283 L xs k23 x0 x1 x2 x3 x4 h = some rr → W p l e room_1 s m #[Value.ref b] below meth c H locs cells slots (lw_Z below #[Value.ref b] s) (F0 m 1283 ls []) := by
  obtain ⟨⟨hx, hb, hml, hown, hts⟩, -⟩ := id C
  have hl9 := C.2.1.2.2.1
  intro x0 x1 x2 x3 x4 h H locs cells slots ls hH hL hl hrun
  unfold f_L_law_1283 at hrun
  refine V_aload_n (pc := 1283) hx hb dL_law_1283 rfl (lv_at hl 1 rfl) ?_
  refine lv_aload_n (pc := 1284) hx hb dL_law_1284 rfl (lv_at hl 0 rfl) ?_
  refine lv_iload (pc := 1285) hx hb dL_law_1285 (lv_at hl 4 rfl) ?_
  refine lv_iconst (v := (1 : Int32)) (pc := 1287) hx hb dL_law_1287 (by decide) ?_
  refine lv_iadd (pc := 1288) hx hb dL_law_1288 ?_
  obtain ⟨c192, hrun⟩ := gd_some hrun
  refine V_sld (pc := 1289) C hH hS dL_law_1289 c192 ?_
  refine lv_aload_n (pc := 1290) hx hb dL_law_1290 rfl (lv_at hl 0 rfl) ?_
  refine lv_iload (pc := 1291) hx hb dL_law_1291 (lv_at hl 4 rfl) ?_
  refine lv_iconst (v := (2 : Int32)) (pc := 1293) hx hb dL_law_1293 (by decide) ?_
  refine lv_iadd (pc := 1294) hx hb dL_law_1294 ?_
  obtain ⟨c193, hrun⟩ := gd_some hrun
  refine V_sld (pc := 1295) C hH hS dL_law_1295 c193 ?_
  refine V_aload_n (pc := 1296) hx hb dL_law_1296 rfl (lv_at hl 3 rfl) ?_
  refine V_bdN (pc := 1297) hL hrun (fun rr1 e1 => Z_runSH (rest := []) C hH (m_X0_verdict hl9 e1) wSH_X0_217 rfl ⟨by decide, by decide⟩ rfl (Nat.le_of_ble_eq_true rfl) hl.1 dL_law_1297) (fun v194 h195 H locs cells slots hH hL hrun => ?_)
  refine lv_istore (i := 5) (lv' := [(5, .int v194), (0, .ref b), (1, rv x1), (2, rv x2), (3, rv x3), (4, .int x4)]) (pc := 1300) hx hb dL_law_1300 hl (by decide) rfl (fun ls hl => ?_)
  refine V_aload_n (pc := 1302) hx hb dL_law_1302 rfl (lv_at hl 3 rfl) ?_
  refine lv_aload_n (pc := 1303) hx hb dL_law_1303 rfl (lv_at hl 1 rfl) ?_
  refine lv_iload (pc := 1304) hx hb dL_law_1304 (lv_at hl 5 rfl) ?_
  refine lv_iconst (v := (1 : Int32)) (pc := 1306) hx hb dL_law_1306 (by decide) ?_
  refine lv_iadd (pc := 1307) hx hb dL_law_1307 ?_
  obtain ⟨c196, hrun⟩ := gd_some hrun
  refine V_sld (pc := 1308) C hH hS dL_law_1308 c196 ?_
  refine lv_aload_n (pc := 1309) hx hb dL_law_1309 rfl (lv_at hl 1 rfl) ?_
  refine lv_iload (pc := 1310) hx hb dL_law_1310 (lv_at hl 5 rfl) ?_
  refine lv_iconst (v := (2 : Int32)) (pc := 1312) hx hb dL_law_1312 (by decide) ?_
  refine lv_iadd (pc := 1313) hx hb dL_law_1313 ?_
  obtain ⟨c197, hrun⟩ := gd_some hrun
  refine V_sld (pc := 1314) C hH hS dL_law_1314 c197 ?_
  obtain ⟨c200, hrun⟩ := gd_some hrun
  refine V_bdN (pc := 1315) hL hrun (fun rr1 e1 => Z_runV (rest := []) C hH (m_X4_verdict hl9 e1) wV_X0_219 c200 rfl (by decide) rfl rfl ⟨by decide, by decide⟩ rfl (Nat.le_of_ble_eq_true rfl) hl.1 dL_law_1315) (fun v198 h199 H locs cells slots hH hL hrun => ?_)
  refine lv_istore (i := 6) (lv' := [(6, .int v198), (5, .int v194), (0, .ref b), (1, rv x1), (2, rv x2), (3, rv x3), (4, .int x4)]) (pc := 1318) hx hb dL_law_1318 hl (by decide) rfl (fun ls hl => ?_)
  refine V_aload_n (pc := 1320) hx hb dL_law_1320 rfl (lv_at hl 4 rfl) ?_
  obtain ⟨c203, hrun⟩ := gd_some hrun
  refine V_bdN (pc := 1321) hL hrun (fun rr1 e1 => Z_runV (rest := []) C hH (m_X4_thrown hl9 e1) wV_X0_170 c203 rfl (by decide) rfl rfl ⟨by decide, by decide⟩ rfl (Nat.le_of_ble_eq_true rfl) hl.1 dL_law_1321) (fun v201 h202 H locs cells slots hH hL hrun => ?_)
  refine lv_iload (pc := 1324) hx hb dL_law_1324 (lv_at hl 1 rfl) ?_
  refine lv_icmp_eq (tgt := 1331) (pc := 1326) hx hb dL_law_1326 (by decide) (fun c_ => ?_) (fun c_ => ?_)
  · have hrun := ite_t hrun c_
    refine lv_iload (pc := 1331) hx hb dL_law_1331 (lv_at hl 1 rfl) ?_
    refine lv_if_ne (tgt := 1348) (pc := 1333) hx hb dL_law_1333 (by decide) (fun c_ => ?_) (fun c_ => ?_)
    · have hrun := ite_f hrun c_
      exact b_L_law_1348 C hok hS K23 x0 x1 x2 x3 x4 h202 H locs cells slots ls hH hL (lv_sub hl [2, 3, 4, 5, 6] rfl) hrun
    · have hrun := ite_t hrun c_
      refine V_aload_n (pc := 1336) hx hb dL_law_1336 rfl (lv_at hl 5 rfl) ?_
      refine lv_iconst (v := (0 : Int32)) (pc := 1337) hx hb dL_law_1337 (by decide) ?_
      obtain ⟨c204, hrun⟩ := gd_some hrun
      refine V_lald (pc := 1338) C hH dL_law_1338 c204 ?_
      refine lv_iload (pc := 1339) hx hb dL_law_1339 (lv_at hl 0 rfl) ?_
      refine lv_i2l (pc := 1341) hx hb dL_law_1341 rfl ?_
      refine V_lcmp_eq (tgt := 1348) (pc := 1342) hx hb dL_law_1342 dL_law_1343 (by decide) (fun c_ => ?_) (fun c_ => ?_)
      · have hrun := ite_t hrun c_
        exact b_L_law_1348 C hok hS K23 x0 x1 x2 x3 x4 h202 H locs cells slots ls hH hL (lv_sub hl [2, 3, 4, 5, 6] rfl) hrun
      · have hrun := ite_f hrun c_
        refine lv_iconst (v := (0 : Int32)) (pc := 1346) hx hb dL_law_1346 (by decide) ?_
        exact V_lawret (pc := 1347) C hH hL hok hrun dL_law_1347
  · have hrun := ite_f hrun c_
    refine lv_iconst (v := (0 : Int32)) (pc := 1329) hx hb dL_law_1329 (by decide) ?_
    exact V_lawret (pc := 1330) C hH hL hok hrun dL_law_1330

theorem b_L_law_1404 {rr : (Int32 ⊕ Ex) × Hp} {k23 : Unit → Nat → Nat → Nat → Int32 → Hp → Rt Int32} {b L : Nat} {xs : Nat → Int32} {et9 : List (Nat × Nat × Nat × Nat)} (C : CX p l room_1 s m #[Value.ref b] meth c D s.heap cL_law "MassclaimLaw" 9 ret et9 8192 104096) (hok : rr.1 = .inl 1) (hS : va_X b L xs s s.heap ∧ b < s.heap.size) (K23 : ∀ (x0 : Unit) (x1 : Nat) (x2 : Nat) (x3 : Nat) (x4 : Int32) (h : Hp) (H : Heap) (locs : List Loc) (cells slots : Nat) (ls : Array Slot), HP D s.heap h H → LO s.heap locs → lv_has ls 9 [(0, .ref b), (1, rv x1), (2, rv x2), (3, rv x3), (4, .int x4)] → k23 x0 x1 x2 x3 x4 h = some rr → W p l e room_1 s m #[Value.ref b] below meth c H locs cells slots (lw_Z below #[Value.ref b] s) (F0 m 23 ls [])) : ∀ (x0 : Unit) (x1 : Nat) (x2 : Nat) (x3 : Nat) (x4 : Int32) (h : Hp) (H : Heap) (locs : List Loc) (cells slots : Nat) (ls : Array Slot), HP D s.heap h H → LO s.heap locs → lv_has ls 9 [(0, .ref b), (1, rv x1), (2, rv x2), (3, rv x3), (4, .int x4)] → f_L_law_1404 L xs k23 x0 x1 x2 x3 x4 h = some rr → W p l e room_1 s m #[Value.ref b] below meth c H locs cells slots (lw_Z below #[Value.ref b] s) (F0 m 1404 ls []) := by
  obtain ⟨⟨hx, hb, hml, hown, hts⟩, -⟩ := id C
  have hl9 := C.2.1.2.2.1
  intro x0 x1 x2 x3 x4 h H locs cells slots ls hH hL hl hrun
  unfold f_L_law_1404 at hrun
  refine lv_goto (tgt := 3277) (pc := 1404) hx hb dL_law_1404 (by decide) ?_
  exact b_L_law_3277 C hok hS K23 x0 x1 x2 x3 x4 h H locs cells slots ls hH hL (lv_sub hl [0, 1, 2, 3, 4] rfl) hrun

theorem b_L_law_1351 {rr : (Int32 ⊕ Ex) × Hp} {k23 : Unit → Nat → Nat → Nat → Int32 → Hp → Rt Int32} {b L : Nat} {xs : Nat → Int32} {et9 : List (Nat × Nat × Nat × Nat)} (C : CX p l room_1 s m #[Value.ref b] meth c D s.heap cL_law "MassclaimLaw" 9 ret et9 8192 104096) (hok : rr.1 = .inl 1) (hS : va_X b L xs s s.heap ∧ b < s.heap.size) (K23 : ∀ (x0 : Unit) (x1 : Nat) (x2 : Nat) (x3 : Nat) (x4 : Int32) (h : Hp) (H : Heap) (locs : List Loc) (cells slots : Nat) (ls : Array Slot), HP D s.heap h H → LO s.heap locs → lv_has ls 9 [(0, .ref b), (1, rv x1), (2, rv x2), (3, rv x3), (4, .int x4)] → k23 x0 x1 x2 x3 x4 h = some rr → W p l e room_1 s m #[Value.ref b] below meth c H locs cells slots (lw_Z below #[Value.ref b] s) (F0 m 23 ls [])) : ∀ (x0 : Unit) (x1 : Nat) (x2 : Nat) (x3 : Nat) (x4 : Int32) (h : Hp) (H : Heap) (locs : List Loc) (cells slots : Nat) (ls : Array Slot), HP D s.heap h H → LO s.heap locs → lv_has ls 9 [(0, .ref b), (1, rv x1), (2, rv x2), (3, rv x3), (4, .int x4)] → f_L_law_1351 L xs k23 x0 x1 x2 x3 x4 h = some rr → W p l e room_1 s m #[Value.ref b] below meth c H locs cells slots (lw_Z below #[Value.ref b] s) (F0 m 1351 ls []) := by
  obtain ⟨⟨hx, hb, hml, hown, hts⟩, -⟩ := id C
  have hl9 := C.2.1.2.2.1
  intro x0 x1 x2 x3 x4 h H locs cells slots ls hH hL hl hrun
  unfold f_L_law_1351 at hrun
  refine V_aload_n (pc := 1351) hx hb dL_law_1351 rfl (lv_at hl 1 rfl) ?_
  refine lv_aload_n (pc := 1352) hx hb dL_law_1352 rfl (lv_at hl 0 rfl) ?_
  refine lv_iload (pc := 1353) hx hb dL_law_1353 (lv_at hl 4 rfl) ?_
  refine lv_iconst (v := (1 : Int32)) (pc := 1355) hx hb dL_law_1355 (by decide) ?_
  refine lv_iadd (pc := 1356) hx hb dL_law_1356 ?_
  obtain ⟨c205, hrun⟩ := gd_some hrun
  refine V_sld (pc := 1357) C hH hS dL_law_1357 c205 ?_
  refine V_aload_n (pc := 1358) hx hb dL_law_1358 rfl (lv_at hl 3 rfl) ?_
  refine V_bdN (pc := 1359) hL hrun (fun rr1 e1 => Z_runSH (rest := []) C hH (m_X0_offer hl9 e1) wSH_X0_220 rfl ⟨by decide, by decide⟩ rfl (Nat.le_of_ble_eq_true rfl) hl.1 dL_law_1359) (fun v206 h207 H locs cells slots hH hL hrun => ?_)
  refine lv_istore (i := 5) (lv' := [(5, .int v206), (0, .ref b), (1, rv x1), (2, rv x2), (3, rv x3), (4, .int x4)]) (pc := 1362) hx hb dL_law_1362 hl (by decide) rfl (fun ls hl => ?_)
  refine V_aload_n (pc := 1364) hx hb dL_law_1364 rfl (lv_at hl 3 rfl) ?_
  refine lv_aload_n (pc := 1365) hx hb dL_law_1365 rfl (lv_at hl 1 rfl) ?_
  refine lv_iload (pc := 1366) hx hb dL_law_1366 (lv_at hl 5 rfl) ?_
  refine lv_iconst (v := (1 : Int32)) (pc := 1368) hx hb dL_law_1368 (by decide) ?_
  refine lv_iadd (pc := 1369) hx hb dL_law_1369 ?_
  obtain ⟨c208, hrun⟩ := gd_some hrun
  refine V_sld (pc := 1370) C hH hS dL_law_1370 c208 ?_
  obtain ⟨c211, hrun⟩ := gd_some hrun
  refine V_bdN (pc := 1371) hL hrun (fun rr1 e1 => Z_runV (rest := []) C hH (m_X4_offer hl9 e1) wV_X0_222 c211 rfl (by decide) rfl rfl ⟨by decide, by decide⟩ rfl (Nat.le_of_ble_eq_true rfl) hl.1 dL_law_1371) (fun v209 h210 H locs cells slots hH hL hrun => ?_)
  refine lv_istore (i := 6) (lv' := [(6, .int v209), (5, .int v206), (0, .ref b), (1, rv x1), (2, rv x2), (3, rv x3), (4, .int x4)]) (pc := 1374) hx hb dL_law_1374 hl (by decide) rfl (fun ls hl => ?_)
  refine V_aload_n (pc := 1376) hx hb dL_law_1376 rfl (lv_at hl 4 rfl) ?_
  obtain ⟨c214, hrun⟩ := gd_some hrun
  refine V_bdN (pc := 1377) hL hrun (fun rr1 e1 => Z_runV (rest := []) C hH (m_X4_thrown hl9 e1) wV_X0_170 c214 rfl (by decide) rfl rfl ⟨by decide, by decide⟩ rfl (Nat.le_of_ble_eq_true rfl) hl.1 dL_law_1377) (fun v212 h213 H locs cells slots hH hL hrun => ?_)
  refine lv_iload (pc := 1380) hx hb dL_law_1380 (lv_at hl 1 rfl) ?_
  refine lv_icmp_eq (tgt := 1387) (pc := 1382) hx hb dL_law_1382 (by decide) (fun c_ => ?_) (fun c_ => ?_)
  · have hrun := ite_t hrun c_
    refine lv_iload (pc := 1387) hx hb dL_law_1387 (lv_at hl 1 rfl) ?_
    refine lv_if_ne (tgt := 1404) (pc := 1389) hx hb dL_law_1389 (by decide) (fun c_ => ?_) (fun c_ => ?_)
    · have hrun := ite_f hrun c_
      exact b_L_law_1404 C hok hS K23 x0 x1 x2 x3 x4 h213 H locs cells slots ls hH hL (lv_sub hl [2, 3, 4, 5, 6] rfl) hrun
    · have hrun := ite_t hrun c_
      refine V_aload_n (pc := 1392) hx hb dL_law_1392 rfl (lv_at hl 5 rfl) ?_
      refine lv_iconst (v := (0 : Int32)) (pc := 1393) hx hb dL_law_1393 (by decide) ?_
      obtain ⟨c215, hrun⟩ := gd_some hrun
      refine V_lald (pc := 1394) C hH dL_law_1394 c215 ?_
      refine lv_iload (pc := 1395) hx hb dL_law_1395 (lv_at hl 0 rfl) ?_
      refine lv_i2l (pc := 1397) hx hb dL_law_1397 rfl ?_
      refine V_lcmp_eq (tgt := 1404) (pc := 1398) hx hb dL_law_1398 dL_law_1399 (by decide) (fun c_ => ?_) (fun c_ => ?_)
      · have hrun := ite_t hrun c_
        exact b_L_law_1404 C hok hS K23 x0 x1 x2 x3 x4 h213 H locs cells slots ls hH hL (lv_sub hl [2, 3, 4, 5, 6] rfl) hrun
      · have hrun := ite_f hrun c_
        refine lv_iconst (v := (0 : Int32)) (pc := 1402) hx hb dL_law_1402 (by decide) ?_
        exact V_lawret (pc := 1403) C hH hL hok hrun dL_law_1403
  · have hrun := ite_f hrun c_
    refine lv_iconst (v := (0 : Int32)) (pc := 1385) hx hb dL_law_1385 (by decide) ?_
    exact V_lawret (pc := 1386) C hH hL hok hrun dL_law_1386

theorem b_L_law_1472 {rr : (Int32 ⊕ Ex) × Hp} {k23 : Unit → Nat → Nat → Nat → Int32 → Hp → Rt Int32} {b L : Nat} {xs : Nat → Int32} {et9 : List (Nat × Nat × Nat × Nat)} (C : CX p l room_1 s m #[Value.ref b] meth c D s.heap cL_law "MassclaimLaw" 9 ret et9 8192 104096) (hok : rr.1 = .inl 1) (hS : va_X b L xs s s.heap ∧ b < s.heap.size) (K23 : ∀ (x0 : Unit) (x1 : Nat) (x2 : Nat) (x3 : Nat) (x4 : Int32) (h : Hp) (H : Heap) (locs : List Loc) (cells slots : Nat) (ls : Array Slot), HP D s.heap h H → LO s.heap locs → lv_has ls 9 [(0, .ref b), (1, rv x1), (2, rv x2), (3, rv x3), (4, .int x4)] → k23 x0 x1 x2 x3 x4 h = some rr → W p l e room_1 s m #[Value.ref b] below meth c H locs cells slots (lw_Z below #[Value.ref b] s) (F0 m 23 ls [])) : ∀ (x0 : Unit) (x1 : Nat) (x2 : Nat) (x3 : Nat) (x4 : Int32) (h : Hp) (H : Heap) (locs : List Loc) (cells slots : Nat) (ls : Array Slot), HP D s.heap h H → LO s.heap locs → lv_has ls 9 [(0, .ref b), (1, rv x1), (2, rv x2), (3, rv x3), (4, .int x4)] → f_L_law_1472 L xs k23 x0 x1 x2 x3 x4 h = some rr → W p l e room_1 s m #[Value.ref b] below meth c H locs cells slots (lw_Z below #[Value.ref b] s) (F0 m 1472 ls []) := by
  obtain ⟨⟨hx, hb, hml, hown, hts⟩, -⟩ := id C
  have hl9 := C.2.1.2.2.1
  intro x0 x1 x2 x3 x4 h H locs cells slots ls hH hL hl hrun
  unfold f_L_law_1472 at hrun
  refine lv_goto (tgt := 3277) (pc := 1472) hx hb dL_law_1472 (by decide) ?_
  exact b_L_law_3277 C hok hS K23 x0 x1 x2 x3 x4 h H locs cells slots ls hH hL (lv_sub hl [0, 1, 2, 3, 4] rfl) hrun

theorem b_L_law_1407 {rr : (Int32 ⊕ Ex) × Hp} {k23 : Unit → Nat → Nat → Nat → Int32 → Hp → Rt Int32} {b L : Nat} {xs : Nat → Int32} {et9 : List (Nat × Nat × Nat × Nat)} (C : CX p l room_1 s m #[Value.ref b] meth c D s.heap cL_law "MassclaimLaw" 9 ret et9 8192 104096) (hok : rr.1 = .inl 1) (hS : va_X b L xs s s.heap ∧ b < s.heap.size) (K23 : ∀ (x0 : Unit) (x1 : Nat) (x2 : Nat) (x3 : Nat) (x4 : Int32) (h : Hp) (H : Heap) (locs : List Loc) (cells slots : Nat) (ls : Array Slot), HP D s.heap h H → LO s.heap locs → lv_has ls 9 [(0, .ref b), (1, rv x1), (2, rv x2), (3, rv x3), (4, .int x4)] → k23 x0 x1 x2 x3 x4 h = some rr → W p l e room_1 s m #[Value.ref b] below meth c H locs cells slots (lw_Z below #[Value.ref b] s) (F0 m 23 ls [])) : ∀ (x0 : Unit) (x1 : Nat) (x2 : Nat) (x3 : Nat) (x4 : Int32) (h : Hp) (H : Heap) (locs : List Loc) (cells slots : Nat) (ls : Array Slot), HP D s.heap h H → LO s.heap locs → lv_has ls 9 [(0, .ref b), (1, rv x1), (2, rv x2), (3, rv x3), (4, .int x4)] → f_L_law_1407 L xs k23 x0 x1 x2 x3 x4 h = some rr → W p l e room_1 s m #[Value.ref b] below meth c H locs cells slots (lw_Z below #[Value.ref b] s) (F0 m 1407 ls []) := by
  obtain ⟨⟨hx, hb, hml, hown, hts⟩, -⟩ := id C
  have hl9 := C.2.1.2.2.1
  intro x0 x1 x2 x3 x4 h H locs cells slots ls hH hL hl hrun
  unfold f_L_law_1407 at hrun
  refine V_aload_n (pc := 1407) hx hb dL_law_1407 rfl (lv_at hl 1 rfl) ?_
  refine lv_aload_n (pc := 1408) hx hb dL_law_1408 rfl (lv_at hl 0 rfl) ?_
  refine lv_iload (pc := 1409) hx hb dL_law_1409 (lv_at hl 4 rfl) ?_
  refine lv_iconst (v := (1 : Int32)) (pc := 1411) hx hb dL_law_1411 (by decide) ?_
  refine lv_iadd (pc := 1412) hx hb dL_law_1412 ?_
  obtain ⟨c216, hrun⟩ := gd_some hrun
  refine V_sld (pc := 1413) C hH hS dL_law_1413 c216 ?_
  refine lv_aload_n (pc := 1414) hx hb dL_law_1414 rfl (lv_at hl 0 rfl) ?_
  refine lv_iload (pc := 1415) hx hb dL_law_1415 (lv_at hl 4 rfl) ?_
  refine lv_iconst (v := (2 : Int32)) (pc := 1417) hx hb dL_law_1417 (by decide) ?_
  refine lv_iadd (pc := 1418) hx hb dL_law_1418 ?_
  obtain ⟨c217, hrun⟩ := gd_some hrun
  refine V_sld (pc := 1419) C hH hS dL_law_1419 c217 ?_
  refine V_aload_n (pc := 1420) hx hb dL_law_1420 rfl (lv_at hl 3 rfl) ?_
  refine V_bdN (pc := 1421) hL hrun (fun rr1 e1 => Z_runSH (rest := []) C hH (m_X0_defendant hl9 e1) wSH_X0_223 rfl ⟨by decide, by decide⟩ rfl (Nat.le_of_ble_eq_true rfl) hl.1 dL_law_1421) (fun v218 h219 H locs cells slots hH hL hrun => ?_)
  refine lv_istore (i := 5) (lv' := [(5, .int v218), (0, .ref b), (1, rv x1), (2, rv x2), (3, rv x3), (4, .int x4)]) (pc := 1424) hx hb dL_law_1424 hl (by decide) rfl (fun ls hl => ?_)
  refine V_aload_n (pc := 1426) hx hb dL_law_1426 rfl (lv_at hl 3 rfl) ?_
  refine lv_aload_n (pc := 1427) hx hb dL_law_1427 rfl (lv_at hl 1 rfl) ?_
  refine lv_iload (pc := 1428) hx hb dL_law_1428 (lv_at hl 5 rfl) ?_
  refine lv_iconst (v := (1 : Int32)) (pc := 1430) hx hb dL_law_1430 (by decide) ?_
  refine lv_iadd (pc := 1431) hx hb dL_law_1431 ?_
  obtain ⟨c220, hrun⟩ := gd_some hrun
  refine V_sld (pc := 1432) C hH hS dL_law_1432 c220 ?_
  refine lv_aload_n (pc := 1433) hx hb dL_law_1433 rfl (lv_at hl 1 rfl) ?_
  refine lv_iload (pc := 1434) hx hb dL_law_1434 (lv_at hl 5 rfl) ?_
  refine lv_iconst (v := (2 : Int32)) (pc := 1436) hx hb dL_law_1436 (by decide) ?_
  refine lv_iadd (pc := 1437) hx hb dL_law_1437 ?_
  obtain ⟨c221, hrun⟩ := gd_some hrun
  refine V_sld (pc := 1438) C hH hS dL_law_1438 c221 ?_
  obtain ⟨c224, hrun⟩ := gd_some hrun
  refine V_bdN (pc := 1439) hL hrun (fun rr1 e1 => Z_runV (rest := []) C hH (m_X4_defendant hl9 e1) wV_X0_225 c224 rfl (by decide) rfl rfl ⟨by decide, by decide⟩ rfl (Nat.le_of_ble_eq_true rfl) hl.1 dL_law_1439) (fun v222 h223 H locs cells slots hH hL hrun => ?_)
  refine lv_istore (i := 6) (lv' := [(6, .int v222), (5, .int v218), (0, .ref b), (1, rv x1), (2, rv x2), (3, rv x3), (4, .int x4)]) (pc := 1442) hx hb dL_law_1442 hl (by decide) rfl (fun ls hl => ?_)
  refine V_aload_n (pc := 1444) hx hb dL_law_1444 rfl (lv_at hl 4 rfl) ?_
  obtain ⟨c227, hrun⟩ := gd_some hrun
  refine V_bdN (pc := 1445) hL hrun (fun rr1 e1 => Z_runV (rest := []) C hH (m_X4_thrown hl9 e1) wV_X0_170 c227 rfl (by decide) rfl rfl ⟨by decide, by decide⟩ rfl (Nat.le_of_ble_eq_true rfl) hl.1 dL_law_1445) (fun v225 h226 H locs cells slots hH hL hrun => ?_)
  refine lv_iload (pc := 1448) hx hb dL_law_1448 (lv_at hl 1 rfl) ?_
  refine lv_icmp_eq (tgt := 1455) (pc := 1450) hx hb dL_law_1450 (by decide) (fun c_ => ?_) (fun c_ => ?_)
  · have hrun := ite_t hrun c_
    refine lv_iload (pc := 1455) hx hb dL_law_1455 (lv_at hl 1 rfl) ?_
    refine lv_if_ne (tgt := 1472) (pc := 1457) hx hb dL_law_1457 (by decide) (fun c_ => ?_) (fun c_ => ?_)
    · have hrun := ite_f hrun c_
      exact b_L_law_1472 C hok hS K23 x0 x1 x2 x3 x4 h226 H locs cells slots ls hH hL (lv_sub hl [2, 3, 4, 5, 6] rfl) hrun
    · have hrun := ite_t hrun c_
      refine V_aload_n (pc := 1460) hx hb dL_law_1460 rfl (lv_at hl 5 rfl) ?_
      refine lv_iconst (v := (0 : Int32)) (pc := 1461) hx hb dL_law_1461 (by decide) ?_
      obtain ⟨c228, hrun⟩ := gd_some hrun
      refine V_lald (pc := 1462) C hH dL_law_1462 c228 ?_
      refine lv_iload (pc := 1463) hx hb dL_law_1463 (lv_at hl 0 rfl) ?_
      refine lv_i2l (pc := 1465) hx hb dL_law_1465 rfl ?_
      refine V_lcmp_eq (tgt := 1472) (pc := 1466) hx hb dL_law_1466 dL_law_1467 (by decide) (fun c_ => ?_) (fun c_ => ?_)
      · have hrun := ite_t hrun c_
        exact b_L_law_1472 C hok hS K23 x0 x1 x2 x3 x4 h226 H locs cells slots ls hH hL (lv_sub hl [2, 3, 4, 5, 6] rfl) hrun
      · have hrun := ite_f hrun c_
        refine lv_iconst (v := (0 : Int32)) (pc := 1470) hx hb dL_law_1470 (by decide) ?_
        exact V_lawret (pc := 1471) C hH hL hok hrun dL_law_1471
  · have hrun := ite_f hrun c_
    refine lv_iconst (v := (0 : Int32)) (pc := 1453) hx hb dL_law_1453 (by decide) ?_
    exact V_lawret (pc := 1454) C hH hL hok hrun dL_law_1454

theorem b_L_law_1539 {rr : (Int32 ⊕ Ex) × Hp} {k23 : Unit → Nat → Nat → Nat → Int32 → Hp → Rt Int32} {b L : Nat} {xs : Nat → Int32} {et9 : List (Nat × Nat × Nat × Nat)} (C : CX p l room_1 s m #[Value.ref b] meth c D s.heap cL_law "MassclaimLaw" 9 ret et9 8192 104096) (hok : rr.1 = .inl 1) (hS : va_X b L xs s s.heap ∧ b < s.heap.size) (K23 : ∀ (x0 : Unit) (x1 : Nat) (x2 : Nat) (x3 : Nat) (x4 : Int32) (h : Hp) (H : Heap) (locs : List Loc) (cells slots : Nat) (ls : Array Slot), HP D s.heap h H → LO s.heap locs → lv_has ls 9 [(0, .ref b), (1, rv x1), (2, rv x2), (3, rv x3), (4, .int x4)] → k23 x0 x1 x2 x3 x4 h = some rr → W p l e room_1 s m #[Value.ref b] below meth c H locs cells slots (lw_Z below #[Value.ref b] s) (F0 m 23 ls [])) : ∀ (x0 : Unit) (x1 : Nat) (x2 : Nat) (x3 : Nat) (x4 : Int32) (h : Hp) (H : Heap) (locs : List Loc) (cells slots : Nat) (ls : Array Slot), HP D s.heap h H → LO s.heap locs → lv_has ls 9 [(0, .ref b), (1, rv x1), (2, rv x2), (3, rv x3), (4, .int x4)] → f_L_law_1539 L xs k23 x0 x1 x2 x3 x4 h = some rr → W p l e room_1 s m #[Value.ref b] below meth c H locs cells slots (lw_Z below #[Value.ref b] s) (F0 m 1539 ls []) := by
  obtain ⟨⟨hx, hb, hml, hown, hts⟩, -⟩ := id C
  have hl9 := C.2.1.2.2.1
  intro x0 x1 x2 x3 x4 h H locs cells slots ls hH hL hl hrun
  unfold f_L_law_1539 at hrun
  refine lv_goto (tgt := 3277) (pc := 1539) hx hb dL_law_1539 (by decide) ?_
  exact b_L_law_3277 C hok hS K23 x0 x1 x2 x3 x4 h H locs cells slots ls hH hL (lv_sub hl [0, 1, 2, 3, 4] rfl) hrun

theorem b_L_law_1475 {rr : (Int32 ⊕ Ex) × Hp} {k23 : Unit → Nat → Nat → Nat → Int32 → Hp → Rt Int32} {b L : Nat} {xs : Nat → Int32} {et9 : List (Nat × Nat × Nat × Nat)} (C : CX p l room_1 s m #[Value.ref b] meth c D s.heap cL_law "MassclaimLaw" 9 ret et9 8192 104096) (hok : rr.1 = .inl 1) (hS : va_X b L xs s s.heap ∧ b < s.heap.size) (K23 : ∀ (x0 : Unit) (x1 : Nat) (x2 : Nat) (x3 : Nat) (x4 : Int32) (h : Hp) (H : Heap) (locs : List Loc) (cells slots : Nat) (ls : Array Slot), HP D s.heap h H → LO s.heap locs → lv_has ls 9 [(0, .ref b), (1, rv x1), (2, rv x2), (3, rv x3), (4, .int x4)] → k23 x0 x1 x2 x3 x4 h = some rr → W p l e room_1 s m #[Value.ref b] below meth c H locs cells slots (lw_Z below #[Value.ref b] s) (F0 m 23 ls [])) : ∀ (x0 : Unit) (x1 : Nat) (x2 : Nat) (x3 : Nat) (x4 : Int32) (h : Hp) (H : Heap) (locs : List Loc) (cells slots : Nat) (ls : Array Slot), HP D s.heap h H → LO s.heap locs → lv_has ls 9 [(0, .ref b), (1, rv x1), (2, rv x2), (3, rv x3), (4, .int x4)] → f_L_law_1475 L xs k23 x0 x1 x2 x3 x4 h = some rr → W p l e room_1 s m #[Value.ref b] below meth c H locs cells slots (lw_Z below #[Value.ref b] s) (F0 m 1475 ls []) := by
  obtain ⟨⟨hx, hb, hml, hown, hts⟩, -⟩ := id C
  have hl9 := C.2.1.2.2.1
  intro x0 x1 x2 x3 x4 h H locs cells slots ls hH hL hl hrun
  unfold f_L_law_1475 at hrun
  refine V_aload_n (pc := 1475) hx hb dL_law_1475 rfl (lv_at hl 1 rfl) ?_
  refine lv_aload_n (pc := 1476) hx hb dL_law_1476 rfl (lv_at hl 0 rfl) ?_
  refine lv_iload (pc := 1477) hx hb dL_law_1477 (lv_at hl 4 rfl) ?_
  refine lv_iconst (v := (1 : Int32)) (pc := 1479) hx hb dL_law_1479 (by decide) ?_
  refine lv_iadd (pc := 1480) hx hb dL_law_1480 ?_
  obtain ⟨c229, hrun⟩ := gd_some hrun
  refine V_sld (pc := 1481) C hH hS dL_law_1481 c229 ?_
  refine lv_aload_n (pc := 1482) hx hb dL_law_1482 rfl (lv_at hl 0 rfl) ?_
  refine lv_iload (pc := 1483) hx hb dL_law_1483 (lv_at hl 4 rfl) ?_
  refine lv_iconst (v := (2 : Int32)) (pc := 1485) hx hb dL_law_1485 (by decide) ?_
  refine lv_iadd (pc := 1486) hx hb dL_law_1486 ?_
  obtain ⟨c230, hrun⟩ := gd_some hrun
  refine V_sld (pc := 1487) C hH hS dL_law_1487 c230 ?_
  refine V_aload_n (pc := 1488) hx hb dL_law_1488 rfl (lv_at hl 3 rfl) ?_
  refine V_bdN (pc := 1489) hL hrun (fun rr1 e1 => Z_runSH (rest := []) C hH (m_X0_payIn hl9 e1) wSH_X0_226 rfl ⟨by decide, by decide⟩ rfl (Nat.le_of_ble_eq_true rfl) hl.1 dL_law_1489) (fun v231 h232 H locs cells slots hH hL hrun => ?_)
  refine lv_istore (i := 5) (lv' := [(5, .int v231), (0, .ref b), (1, rv x1), (2, rv x2), (3, rv x3), (4, .int x4)]) (pc := 1492) hx hb dL_law_1492 hl (by decide) rfl (fun ls hl => ?_)
  refine V_aload_n (pc := 1494) hx hb dL_law_1494 rfl (lv_at hl 3 rfl) ?_
  refine lv_aload_n (pc := 1495) hx hb dL_law_1495 rfl (lv_at hl 1 rfl) ?_
  refine lv_iload (pc := 1496) hx hb dL_law_1496 (lv_at hl 5 rfl) ?_
  refine lv_iconst (v := (1 : Int32)) (pc := 1498) hx hb dL_law_1498 (by decide) ?_
  refine lv_iadd (pc := 1499) hx hb dL_law_1499 ?_
  obtain ⟨c233, hrun⟩ := gd_some hrun
  refine V_sld (pc := 1500) C hH hS dL_law_1500 c233 ?_
  refine lv_aload_n (pc := 1501) hx hb dL_law_1501 rfl (lv_at hl 1 rfl) ?_
  refine lv_iload (pc := 1502) hx hb dL_law_1502 (lv_at hl 5 rfl) ?_
  refine lv_iconst (v := (2 : Int32)) (pc := 1504) hx hb dL_law_1504 (by decide) ?_
  refine lv_iadd (pc := 1505) hx hb dL_law_1505 ?_
  obtain ⟨c234, hrun⟩ := gd_some hrun
  refine V_sld (pc := 1506) C hH hS dL_law_1506 c234 ?_
  obtain ⟨c237, hrun⟩ := gd_some hrun
  refine V_bdN (pc := 1507) hL hrun (fun rr1 e1 => Z_runV (rest := []) C hH (m_X4_payIn hl9 e1) wV_X0_228 c237 rfl (by decide) rfl rfl ⟨by decide, by decide⟩ rfl (Nat.le_of_ble_eq_true rfl) hl.1 dL_law_1507) (fun v235 h236 H locs cells slots hH hL hrun => ?_)
  refine lv_lstore (i := 6) (lv' := [(6, .long v235), (5, .int v231), (0, .ref b), (1, rv x1), (2, rv x2), (3, rv x3), (4, .int x4)]) (pc := 1510) hx hb dL_law_1510 hl (by decide) rfl (fun ls hl => ?_)
  refine V_aload_n (pc := 1512) hx hb dL_law_1512 rfl (lv_at hl 4 rfl) ?_
  obtain ⟨c240, hrun⟩ := gd_some hrun
  refine V_bdN (pc := 1513) hL hrun (fun rr1 e1 => Z_runV (rest := []) C hH (m_X4_thrown hl9 e1) wV_X0_170 c240 rfl (by decide) rfl rfl ⟨by decide, by decide⟩ rfl (Nat.le_of_ble_eq_true rfl) hl.1 dL_law_1513) (fun v238 h239 H locs cells slots hH hL hrun => ?_)
  refine lv_iload (pc := 1516) hx hb dL_law_1516 (lv_at hl 1 rfl) ?_
  refine lv_icmp_eq (tgt := 1523) (pc := 1518) hx hb dL_law_1518 (by decide) (fun c_ => ?_) (fun c_ => ?_)
  · have hrun := ite_t hrun c_
    refine lv_iload (pc := 1523) hx hb dL_law_1523 (lv_at hl 1 rfl) ?_
    refine lv_if_ne (tgt := 1539) (pc := 1525) hx hb dL_law_1525 (by decide) (fun c_ => ?_) (fun c_ => ?_)
    · have hrun := ite_f hrun c_
      exact b_L_law_1539 C hok hS K23 x0 x1 x2 x3 x4 h239 H locs cells slots ls hH hL (lv_sub hl [2, 3, 4, 5, 6] rfl) hrun
    · have hrun := ite_t hrun c_
      refine V_aload_n (pc := 1528) hx hb dL_law_1528 rfl (lv_at hl 5 rfl) ?_
      refine lv_iconst (v := (0 : Int32)) (pc := 1529) hx hb dL_law_1529 (by decide) ?_
      obtain ⟨c241, hrun⟩ := gd_some hrun
      refine V_lald (pc := 1530) C hH dL_law_1530 c241 ?_
      refine lv_lload (pc := 1531) hx hb dL_law_1531 (lv_at hl 0 rfl) ?_
      refine V_lcmp_eq (tgt := 1539) (pc := 1533) hx hb dL_law_1533 dL_law_1534 (by decide) (fun c_ => ?_) (fun c_ => ?_)
      · have hrun := ite_t hrun c_
        exact b_L_law_1539 C hok hS K23 x0 x1 x2 x3 x4 h239 H locs cells slots ls hH hL (lv_sub hl [2, 3, 4, 5, 6] rfl) hrun
      · have hrun := ite_f hrun c_
        refine lv_iconst (v := (0 : Int32)) (pc := 1537) hx hb dL_law_1537 (by decide) ?_
        exact V_lawret (pc := 1538) C hH hL hok hrun dL_law_1538
  · have hrun := ite_f hrun c_
    refine lv_iconst (v := (0 : Int32)) (pc := 1521) hx hb dL_law_1521 (by decide) ?_
    exact V_lawret (pc := 1522) C hH hL hok hrun dL_law_1522

theorem b_L_law_1594 {rr : (Int32 ⊕ Ex) × Hp} {k23 : Unit → Nat → Nat → Nat → Int32 → Hp → Rt Int32} {b L : Nat} {xs : Nat → Int32} {et9 : List (Nat × Nat × Nat × Nat)} (C : CX p l room_1 s m #[Value.ref b] meth c D s.heap cL_law "MassclaimLaw" 9 ret et9 8192 104096) (hok : rr.1 = .inl 1) (hS : va_X b L xs s s.heap ∧ b < s.heap.size) (K23 : ∀ (x0 : Unit) (x1 : Nat) (x2 : Nat) (x3 : Nat) (x4 : Int32) (h : Hp) (H : Heap) (locs : List Loc) (cells slots : Nat) (ls : Array Slot), HP D s.heap h H → LO s.heap locs → lv_has ls 9 [(0, .ref b), (1, rv x1), (2, rv x2), (3, rv x3), (4, .int x4)] → k23 x0 x1 x2 x3 x4 h = some rr → W p l e room_1 s m #[Value.ref b] below meth c H locs cells slots (lw_Z below #[Value.ref b] s) (F0 m 23 ls [])) : ∀ (x0 : Unit) (x1 : Nat) (x2 : Nat) (x3 : Nat) (x4 : Int32) (h : Hp) (H : Heap) (locs : List Loc) (cells slots : Nat) (ls : Array Slot), HP D s.heap h H → LO s.heap locs → lv_has ls 9 [(0, .ref b), (1, rv x1), (2, rv x2), (3, rv x3), (4, .int x4)] → f_L_law_1594 L xs k23 x0 x1 x2 x3 x4 h = some rr → W p l e room_1 s m #[Value.ref b] below meth c H locs cells slots (lw_Z below #[Value.ref b] s) (F0 m 1594 ls []) := by
  obtain ⟨⟨hx, hb, hml, hown, hts⟩, -⟩ := id C
  have hl9 := C.2.1.2.2.1
  intro x0 x1 x2 x3 x4 h H locs cells slots ls hH hL hl hrun
  unfold f_L_law_1594 at hrun
  refine lv_goto (tgt := 3277) (pc := 1594) hx hb dL_law_1594 (by decide) ?_
  exact b_L_law_3277 C hok hS K23 x0 x1 x2 x3 x4 h H locs cells slots ls hH hL (lv_sub hl [0, 1, 2, 3, 4] rfl) hrun

theorem b_L_law_1542 {rr : (Int32 ⊕ Ex) × Hp} {k23 : Unit → Nat → Nat → Nat → Int32 → Hp → Rt Int32} {b L : Nat} {xs : Nat → Int32} {et9 : List (Nat × Nat × Nat × Nat)} (C : CX p l room_1 s m #[Value.ref b] meth c D s.heap cL_law "MassclaimLaw" 9 ret et9 8192 104096) (hok : rr.1 = .inl 1) (hS : va_X b L xs s s.heap ∧ b < s.heap.size) (K23 : ∀ (x0 : Unit) (x1 : Nat) (x2 : Nat) (x3 : Nat) (x4 : Int32) (h : Hp) (H : Heap) (locs : List Loc) (cells slots : Nat) (ls : Array Slot), HP D s.heap h H → LO s.heap locs → lv_has ls 9 [(0, .ref b), (1, rv x1), (2, rv x2), (3, rv x3), (4, .int x4)] → k23 x0 x1 x2 x3 x4 h = some rr → W p l e room_1 s m #[Value.ref b] below meth c H locs cells slots (lw_Z below #[Value.ref b] s) (F0 m 23 ls [])) : ∀ (x0 : Unit) (x1 : Nat) (x2 : Nat) (x3 : Nat) (x4 : Int32) (h : Hp) (H : Heap) (locs : List Loc) (cells slots : Nat) (ls : Array Slot), HP D s.heap h H → LO s.heap locs → lv_has ls 9 [(0, .ref b), (1, rv x1), (2, rv x2), (3, rv x3), (4, .int x4)] → f_L_law_1542 L xs k23 x0 x1 x2 x3 x4 h = some rr → W p l e room_1 s m #[Value.ref b] below meth c H locs cells slots (lw_Z below #[Value.ref b] s) (F0 m 1542 ls []) := by
  obtain ⟨⟨hx, hb, hml, hown, hts⟩, -⟩ := id C
  have hl9 := C.2.1.2.2.1
  intro x0 x1 x2 x3 x4 h H locs cells slots ls hH hL hl hrun
  unfold f_L_law_1542 at hrun
  refine V_aload_n (pc := 1542) hx hb dL_law_1542 rfl (lv_at hl 1 rfl) ?_
  refine lv_aload_n (pc := 1543) hx hb dL_law_1543 rfl (lv_at hl 0 rfl) ?_
  refine lv_iload (pc := 1544) hx hb dL_law_1544 (lv_at hl 4 rfl) ?_
  refine lv_iconst (v := (1 : Int32)) (pc := 1546) hx hb dL_law_1546 (by decide) ?_
  refine lv_iadd (pc := 1547) hx hb dL_law_1547 ?_
  obtain ⟨c242, hrun⟩ := gd_some hrun
  refine V_sld (pc := 1548) C hH hS dL_law_1548 c242 ?_
  refine V_aload_n (pc := 1549) hx hb dL_law_1549 rfl (lv_at hl 3 rfl) ?_
  refine V_bdN (pc := 1550) hL hrun (fun rr1 e1 => Z_runSH (rest := []) C hH (m_X0_fail hl9 e1) wSH_X0_229 rfl ⟨by decide, by decide⟩ rfl (Nat.le_of_ble_eq_true rfl) hl.1 dL_law_1550) (fun v243 h244 H locs cells slots hH hL hrun => ?_)
  refine lv_istore (i := 5) (lv' := [(5, .int v243), (0, .ref b), (1, rv x1), (2, rv x2), (3, rv x3), (4, .int x4)]) (pc := 1553) hx hb dL_law_1553 hl (by decide) rfl (fun ls hl => ?_)
  refine V_aload_n (pc := 1555) hx hb dL_law_1555 rfl (lv_at hl 3 rfl) ?_
  refine lv_aload_n (pc := 1556) hx hb dL_law_1556 rfl (lv_at hl 1 rfl) ?_
  refine lv_iload (pc := 1557) hx hb dL_law_1557 (lv_at hl 5 rfl) ?_
  refine lv_iconst (v := (1 : Int32)) (pc := 1559) hx hb dL_law_1559 (by decide) ?_
  refine lv_iadd (pc := 1560) hx hb dL_law_1560 ?_
  obtain ⟨c245, hrun⟩ := gd_some hrun
  refine V_sld (pc := 1561) C hH hS dL_law_1561 c245 ?_
  obtain ⟨c248, hrun⟩ := gd_some hrun
  refine V_bdN (pc := 1562) hL hrun (fun rr1 e1 => Z_runV (rest := []) C hH (m_X4_fail hl9 e1) wV_X0_231 c248 rfl (by decide) rfl rfl ⟨by decide, by decide⟩ rfl (Nat.le_of_ble_eq_true rfl) hl.1 dL_law_1562) (fun v246 h247 H locs cells slots hH hL hrun => ?_)
  refine lv_lstore (i := 6) (lv' := [(6, .long v246), (5, .int v243), (0, .ref b), (1, rv x1), (2, rv x2), (3, rv x3), (4, .int x4)]) (pc := 1565) hx hb dL_law_1565 hl (by decide) rfl (fun ls hl => ?_)
  refine V_aload_n (pc := 1567) hx hb dL_law_1567 rfl (lv_at hl 4 rfl) ?_
  obtain ⟨c251, hrun⟩ := gd_some hrun
  refine V_bdN (pc := 1568) hL hrun (fun rr1 e1 => Z_runV (rest := []) C hH (m_X4_thrown hl9 e1) wV_X0_170 c251 rfl (by decide) rfl rfl ⟨by decide, by decide⟩ rfl (Nat.le_of_ble_eq_true rfl) hl.1 dL_law_1568) (fun v249 h250 H locs cells slots hH hL hrun => ?_)
  refine lv_iload (pc := 1571) hx hb dL_law_1571 (lv_at hl 1 rfl) ?_
  refine lv_icmp_eq (tgt := 1578) (pc := 1573) hx hb dL_law_1573 (by decide) (fun c_ => ?_) (fun c_ => ?_)
  · have hrun := ite_t hrun c_
    refine lv_iload (pc := 1578) hx hb dL_law_1578 (lv_at hl 1 rfl) ?_
    refine lv_if_ne (tgt := 1594) (pc := 1580) hx hb dL_law_1580 (by decide) (fun c_ => ?_) (fun c_ => ?_)
    · have hrun := ite_f hrun c_
      exact b_L_law_1594 C hok hS K23 x0 x1 x2 x3 x4 h250 H locs cells slots ls hH hL (lv_sub hl [2, 3, 4, 5, 6] rfl) hrun
    · have hrun := ite_t hrun c_
      refine V_aload_n (pc := 1583) hx hb dL_law_1583 rfl (lv_at hl 5 rfl) ?_
      refine lv_iconst (v := (0 : Int32)) (pc := 1584) hx hb dL_law_1584 (by decide) ?_
      obtain ⟨c252, hrun⟩ := gd_some hrun
      refine V_lald (pc := 1585) C hH dL_law_1585 c252 ?_
      refine lv_lload (pc := 1586) hx hb dL_law_1586 (lv_at hl 0 rfl) ?_
      refine V_lcmp_eq (tgt := 1594) (pc := 1588) hx hb dL_law_1588 dL_law_1589 (by decide) (fun c_ => ?_) (fun c_ => ?_)
      · have hrun := ite_t hrun c_
        exact b_L_law_1594 C hok hS K23 x0 x1 x2 x3 x4 h250 H locs cells slots ls hH hL (lv_sub hl [2, 3, 4, 5, 6] rfl) hrun
      · have hrun := ite_f hrun c_
        refine lv_iconst (v := (0 : Int32)) (pc := 1592) hx hb dL_law_1592 (by decide) ?_
        exact V_lawret (pc := 1593) C hH hL hok hrun dL_law_1593
  · have hrun := ite_f hrun c_
    refine lv_iconst (v := (0 : Int32)) (pc := 1576) hx hb dL_law_1576 (by decide) ?_
    exact V_lawret (pc := 1577) C hH hL hok hrun dL_law_1577

theorem b_L_law_1661 {rr : (Int32 ⊕ Ex) × Hp} {k23 : Unit → Nat → Nat → Nat → Int32 → Hp → Rt Int32} {b L : Nat} {xs : Nat → Int32} {et9 : List (Nat × Nat × Nat × Nat)} (C : CX p l room_1 s m #[Value.ref b] meth c D s.heap cL_law "MassclaimLaw" 9 ret et9 8192 104096) (hok : rr.1 = .inl 1) (hS : va_X b L xs s s.heap ∧ b < s.heap.size) (K23 : ∀ (x0 : Unit) (x1 : Nat) (x2 : Nat) (x3 : Nat) (x4 : Int32) (h : Hp) (H : Heap) (locs : List Loc) (cells slots : Nat) (ls : Array Slot), HP D s.heap h H → LO s.heap locs → lv_has ls 9 [(0, .ref b), (1, rv x1), (2, rv x2), (3, rv x3), (4, .int x4)] → k23 x0 x1 x2 x3 x4 h = some rr → W p l e room_1 s m #[Value.ref b] below meth c H locs cells slots (lw_Z below #[Value.ref b] s) (F0 m 23 ls [])) : ∀ (x0 : Unit) (x1 : Nat) (x2 : Nat) (x3 : Nat) (x4 : Int32) (h : Hp) (H : Heap) (locs : List Loc) (cells slots : Nat) (ls : Array Slot), HP D s.heap h H → LO s.heap locs → lv_has ls 9 [(0, .ref b), (1, rv x1), (2, rv x2), (3, rv x3), (4, .int x4)] → f_L_law_1661 L xs k23 x0 x1 x2 x3 x4 h = some rr → W p l e room_1 s m #[Value.ref b] below meth c H locs cells slots (lw_Z below #[Value.ref b] s) (F0 m 1661 ls []) := by
  obtain ⟨⟨hx, hb, hml, hown, hts⟩, -⟩ := id C
  have hl9 := C.2.1.2.2.1
  intro x0 x1 x2 x3 x4 h H locs cells slots ls hH hL hl hrun
  unfold f_L_law_1661 at hrun
  refine lv_goto (tgt := 3277) (pc := 1661) hx hb dL_law_1661 (by decide) ?_
  exact b_L_law_3277 C hok hS K23 x0 x1 x2 x3 x4 h H locs cells slots ls hH hL (lv_sub hl [0, 1, 2, 3, 4] rfl) hrun

theorem b_L_law_1597 {rr : (Int32 ⊕ Ex) × Hp} {k23 : Unit → Nat → Nat → Nat → Int32 → Hp → Rt Int32} {b L : Nat} {xs : Nat → Int32} {et9 : List (Nat × Nat × Nat × Nat)} (C : CX p l room_1 s m #[Value.ref b] meth c D s.heap cL_law "MassclaimLaw" 9 ret et9 8192 104096) (hok : rr.1 = .inl 1) (hS : va_X b L xs s s.heap ∧ b < s.heap.size) (K23 : ∀ (x0 : Unit) (x1 : Nat) (x2 : Nat) (x3 : Nat) (x4 : Int32) (h : Hp) (H : Heap) (locs : List Loc) (cells slots : Nat) (ls : Array Slot), HP D s.heap h H → LO s.heap locs → lv_has ls 9 [(0, .ref b), (1, rv x1), (2, rv x2), (3, rv x3), (4, .int x4)] → k23 x0 x1 x2 x3 x4 h = some rr → W p l e room_1 s m #[Value.ref b] below meth c H locs cells slots (lw_Z below #[Value.ref b] s) (F0 m 23 ls [])) : ∀ (x0 : Unit) (x1 : Nat) (x2 : Nat) (x3 : Nat) (x4 : Int32) (h : Hp) (H : Heap) (locs : List Loc) (cells slots : Nat) (ls : Array Slot), HP D s.heap h H → LO s.heap locs → lv_has ls 9 [(0, .ref b), (1, rv x1), (2, rv x2), (3, rv x3), (4, .int x4)] → f_L_law_1597 L xs k23 x0 x1 x2 x3 x4 h = some rr → W p l e room_1 s m #[Value.ref b] below meth c H locs cells slots (lw_Z below #[Value.ref b] s) (F0 m 1597 ls []) := by
  obtain ⟨⟨hx, hb, hml, hown, hts⟩, -⟩ := id C
  have hl9 := C.2.1.2.2.1
  intro x0 x1 x2 x3 x4 h H locs cells slots ls hH hL hl hrun
  unfold f_L_law_1597 at hrun
  refine V_aload_n (pc := 1597) hx hb dL_law_1597 rfl (lv_at hl 1 rfl) ?_
  refine lv_aload_n (pc := 1598) hx hb dL_law_1598 rfl (lv_at hl 0 rfl) ?_
  refine lv_iload (pc := 1599) hx hb dL_law_1599 (lv_at hl 4 rfl) ?_
  refine lv_iconst (v := (1 : Int32)) (pc := 1601) hx hb dL_law_1601 (by decide) ?_
  refine lv_iadd (pc := 1602) hx hb dL_law_1602 ?_
  obtain ⟨c253, hrun⟩ := gd_some hrun
  refine V_sld (pc := 1603) C hH hS dL_law_1603 c253 ?_
  refine lv_aload_n (pc := 1604) hx hb dL_law_1604 rfl (lv_at hl 0 rfl) ?_
  refine lv_iload (pc := 1605) hx hb dL_law_1605 (lv_at hl 4 rfl) ?_
  refine lv_iconst (v := (2 : Int32)) (pc := 1607) hx hb dL_law_1607 (by decide) ?_
  refine lv_iadd (pc := 1608) hx hb dL_law_1608 ?_
  obtain ⟨c254, hrun⟩ := gd_some hrun
  refine V_sld (pc := 1609) C hH hS dL_law_1609 c254 ?_
  refine V_aload_n (pc := 1610) hx hb dL_law_1610 rfl (lv_at hl 3 rfl) ?_
  refine V_bdN (pc := 1611) hL hrun (fun rr1 e1 => Z_runSH (rest := []) C hH (m_X0_defendantAt hl9 e1) wSH_X0_232 rfl ⟨by decide, by decide⟩ rfl (Nat.le_of_ble_eq_true rfl) hl.1 dL_law_1611) (fun v255 h256 H locs cells slots hH hL hrun => ?_)
  refine lv_istore (i := 5) (lv' := [(5, .int v255), (0, .ref b), (1, rv x1), (2, rv x2), (3, rv x3), (4, .int x4)]) (pc := 1614) hx hb dL_law_1614 hl (by decide) rfl (fun ls hl => ?_)
  refine V_aload_n (pc := 1616) hx hb dL_law_1616 rfl (lv_at hl 3 rfl) ?_
  refine lv_aload_n (pc := 1617) hx hb dL_law_1617 rfl (lv_at hl 1 rfl) ?_
  refine lv_iload (pc := 1618) hx hb dL_law_1618 (lv_at hl 5 rfl) ?_
  refine lv_iconst (v := (1 : Int32)) (pc := 1620) hx hb dL_law_1620 (by decide) ?_
  refine lv_iadd (pc := 1621) hx hb dL_law_1621 ?_
  obtain ⟨c257, hrun⟩ := gd_some hrun
  refine V_sld (pc := 1622) C hH hS dL_law_1622 c257 ?_
  refine lv_aload_n (pc := 1623) hx hb dL_law_1623 rfl (lv_at hl 1 rfl) ?_
  refine lv_iload (pc := 1624) hx hb dL_law_1624 (lv_at hl 5 rfl) ?_
  refine lv_iconst (v := (2 : Int32)) (pc := 1626) hx hb dL_law_1626 (by decide) ?_
  refine lv_iadd (pc := 1627) hx hb dL_law_1627 ?_
  obtain ⟨c258, hrun⟩ := gd_some hrun
  refine V_sld (pc := 1628) C hH hS dL_law_1628 c258 ?_
  obtain ⟨c261, hrun⟩ := gd_some hrun
  refine V_bdN (pc := 1629) hL hrun (fun rr1 e1 => Z_runV (rest := []) C hH (m_X4_defendantAt hl9 e1) wV_X0_234 c261 rfl (by decide) rfl rfl ⟨by decide, by decide⟩ rfl (Nat.le_of_ble_eq_true rfl) hl.1 dL_law_1629) (fun v259 h260 H locs cells slots hH hL hrun => ?_)
  refine lv_lstore (i := 6) (lv' := [(6, .long v259), (5, .int v255), (0, .ref b), (1, rv x1), (2, rv x2), (3, rv x3), (4, .int x4)]) (pc := 1632) hx hb dL_law_1632 hl (by decide) rfl (fun ls hl => ?_)
  refine V_aload_n (pc := 1634) hx hb dL_law_1634 rfl (lv_at hl 4 rfl) ?_
  obtain ⟨c264, hrun⟩ := gd_some hrun
  refine V_bdN (pc := 1635) hL hrun (fun rr1 e1 => Z_runV (rest := []) C hH (m_X4_thrown hl9 e1) wV_X0_170 c264 rfl (by decide) rfl rfl ⟨by decide, by decide⟩ rfl (Nat.le_of_ble_eq_true rfl) hl.1 dL_law_1635) (fun v262 h263 H locs cells slots hH hL hrun => ?_)
  refine lv_iload (pc := 1638) hx hb dL_law_1638 (lv_at hl 1 rfl) ?_
  refine lv_icmp_eq (tgt := 1645) (pc := 1640) hx hb dL_law_1640 (by decide) (fun c_ => ?_) (fun c_ => ?_)
  · have hrun := ite_t hrun c_
    refine lv_iload (pc := 1645) hx hb dL_law_1645 (lv_at hl 1 rfl) ?_
    refine lv_if_ne (tgt := 1661) (pc := 1647) hx hb dL_law_1647 (by decide) (fun c_ => ?_) (fun c_ => ?_)
    · have hrun := ite_f hrun c_
      exact b_L_law_1661 C hok hS K23 x0 x1 x2 x3 x4 h263 H locs cells slots ls hH hL (lv_sub hl [2, 3, 4, 5, 6] rfl) hrun
    · have hrun := ite_t hrun c_
      refine V_aload_n (pc := 1650) hx hb dL_law_1650 rfl (lv_at hl 5 rfl) ?_
      refine lv_iconst (v := (0 : Int32)) (pc := 1651) hx hb dL_law_1651 (by decide) ?_
      obtain ⟨c265, hrun⟩ := gd_some hrun
      refine V_lald (pc := 1652) C hH dL_law_1652 c265 ?_
      refine lv_lload (pc := 1653) hx hb dL_law_1653 (lv_at hl 0 rfl) ?_
      refine V_lcmp_eq (tgt := 1661) (pc := 1655) hx hb dL_law_1655 dL_law_1656 (by decide) (fun c_ => ?_) (fun c_ => ?_)
      · have hrun := ite_t hrun c_
        exact b_L_law_1661 C hok hS K23 x0 x1 x2 x3 x4 h263 H locs cells slots ls hH hL (lv_sub hl [2, 3, 4, 5, 6] rfl) hrun
      · have hrun := ite_f hrun c_
        refine lv_iconst (v := (0 : Int32)) (pc := 1659) hx hb dL_law_1659 (by decide) ?_
        exact V_lawret (pc := 1660) C hH hL hok hrun dL_law_1660
  · have hrun := ite_f hrun c_
    refine lv_iconst (v := (0 : Int32)) (pc := 1643) hx hb dL_law_1643 (by decide) ?_
    exact V_lawret (pc := 1644) C hH hL hok hrun dL_law_1644

theorem b_L_law_1741 {rr : (Int32 ⊕ Ex) × Hp} {k23 : Unit → Nat → Nat → Nat → Int32 → Hp → Rt Int32} {b L : Nat} {xs : Nat → Int32} {et9 : List (Nat × Nat × Nat × Nat)} (C : CX p l room_1 s m #[Value.ref b] meth c D s.heap cL_law "MassclaimLaw" 9 ret et9 8192 104096) (hok : rr.1 = .inl 1) (hS : va_X b L xs s s.heap ∧ b < s.heap.size) (K23 : ∀ (x0 : Unit) (x1 : Nat) (x2 : Nat) (x3 : Nat) (x4 : Int32) (h : Hp) (H : Heap) (locs : List Loc) (cells slots : Nat) (ls : Array Slot), HP D s.heap h H → LO s.heap locs → lv_has ls 9 [(0, .ref b), (1, rv x1), (2, rv x2), (3, rv x3), (4, .int x4)] → k23 x0 x1 x2 x3 x4 h = some rr → W p l e room_1 s m #[Value.ref b] below meth c H locs cells slots (lw_Z below #[Value.ref b] s) (F0 m 23 ls [])) : ∀ (x0 : Unit) (x1 : Nat) (x2 : Nat) (x3 : Nat) (x4 : Int32) (h : Hp) (H : Heap) (locs : List Loc) (cells slots : Nat) (ls : Array Slot), HP D s.heap h H → LO s.heap locs → lv_has ls 9 [(0, .ref b), (1, rv x1), (2, rv x2), (3, rv x3), (4, .int x4)] → f_L_law_1741 L xs k23 x0 x1 x2 x3 x4 h = some rr → W p l e room_1 s m #[Value.ref b] below meth c H locs cells slots (lw_Z below #[Value.ref b] s) (F0 m 1741 ls []) := by
  obtain ⟨⟨hx, hb, hml, hown, hts⟩, -⟩ := id C
  have hl9 := C.2.1.2.2.1
  intro x0 x1 x2 x3 x4 h H locs cells slots ls hH hL hl hrun
  unfold f_L_law_1741 at hrun
  refine lv_goto (tgt := 3277) (pc := 1741) hx hb dL_law_1741 (by decide) ?_
  exact b_L_law_3277 C hok hS K23 x0 x1 x2 x3 x4 h H locs cells slots ls hH hL (lv_sub hl [0, 1, 2, 3, 4] rfl) hrun

theorem b_L_law_1664 {rr : (Int32 ⊕ Ex) × Hp} {k23 : Unit → Nat → Nat → Nat → Int32 → Hp → Rt Int32} {b L : Nat} {xs : Nat → Int32} {et9 : List (Nat × Nat × Nat × Nat)} (C : CX p l room_1 s m #[Value.ref b] meth c D s.heap cL_law "MassclaimLaw" 9 ret et9 8192 104096) (hok : rr.1 = .inl 1) (hS : va_X b L xs s s.heap ∧ b < s.heap.size) (K23 : ∀ (x0 : Unit) (x1 : Nat) (x2 : Nat) (x3 : Nat) (x4 : Int32) (h : Hp) (H : Heap) (locs : List Loc) (cells slots : Nat) (ls : Array Slot), HP D s.heap h H → LO s.heap locs → lv_has ls 9 [(0, .ref b), (1, rv x1), (2, rv x2), (3, rv x3), (4, .int x4)] → k23 x0 x1 x2 x3 x4 h = some rr → W p l e room_1 s m #[Value.ref b] below meth c H locs cells slots (lw_Z below #[Value.ref b] s) (F0 m 23 ls [])) : ∀ (x0 : Unit) (x1 : Nat) (x2 : Nat) (x3 : Nat) (x4 : Int32) (h : Hp) (H : Heap) (locs : List Loc) (cells slots : Nat) (ls : Array Slot), HP D s.heap h H → LO s.heap locs → lv_has ls 9 [(0, .ref b), (1, rv x1), (2, rv x2), (3, rv x3), (4, .int x4)] → f_L_law_1664 L xs k23 x0 x1 x2 x3 x4 h = some rr → W p l e room_1 s m #[Value.ref b] below meth c H locs cells slots (lw_Z below #[Value.ref b] s) (F0 m 1664 ls []) := by
  obtain ⟨⟨hx, hb, hml, hown, hts⟩, -⟩ := id C
  have hl9 := C.2.1.2.2.1
  intro x0 x1 x2 x3 x4 h H locs cells slots ls hH hL hl hrun
  unfold f_L_law_1664 at hrun
  refine V_aload_n (pc := 1664) hx hb dL_law_1664 rfl (lv_at hl 1 rfl) ?_
  refine lv_aload_n (pc := 1665) hx hb dL_law_1665 rfl (lv_at hl 0 rfl) ?_
  refine lv_iload (pc := 1666) hx hb dL_law_1666 (lv_at hl 4 rfl) ?_
  refine lv_iconst (v := (1 : Int32)) (pc := 1668) hx hb dL_law_1668 (by decide) ?_
  refine lv_iadd (pc := 1669) hx hb dL_law_1669 ?_
  obtain ⟨c266, hrun⟩ := gd_some hrun
  refine V_sld (pc := 1670) C hH hS dL_law_1670 c266 ?_
  refine lv_aload_n (pc := 1671) hx hb dL_law_1671 rfl (lv_at hl 0 rfl) ?_
  refine lv_iload (pc := 1672) hx hb dL_law_1672 (lv_at hl 4 rfl) ?_
  refine lv_iconst (v := (2 : Int32)) (pc := 1674) hx hb dL_law_1674 (by decide) ?_
  refine lv_iadd (pc := 1675) hx hb dL_law_1675 ?_
  obtain ⟨c267, hrun⟩ := gd_some hrun
  refine V_sld (pc := 1676) C hH hS dL_law_1676 c267 ?_
  refine lv_aload_n (pc := 1677) hx hb dL_law_1677 rfl (lv_at hl 0 rfl) ?_
  refine lv_iload (pc := 1678) hx hb dL_law_1678 (lv_at hl 4 rfl) ?_
  refine lv_iconst (v := (3 : Int32)) (pc := 1680) hx hb dL_law_1680 (by decide) ?_
  refine lv_iadd (pc := 1681) hx hb dL_law_1681 ?_
  obtain ⟨c268, hrun⟩ := gd_some hrun
  refine V_sld (pc := 1682) C hH hS dL_law_1682 c268 ?_
  refine V_aload_n (pc := 1683) hx hb dL_law_1683 rfl (lv_at hl 3 rfl) ?_
  refine V_bdN (pc := 1684) hL hrun (fun rr1 e1 => Z_runSH (rest := []) C hH (m_X0_propose hl9 e1) wSH_X0_235 rfl ⟨by decide, by decide⟩ rfl (Nat.le_of_ble_eq_true rfl) hl.1 dL_law_1684) (fun v269 h270 H locs cells slots hH hL hrun => ?_)
  refine lv_istore (i := 5) (lv' := [(5, .int v269), (0, .ref b), (1, rv x1), (2, rv x2), (3, rv x3), (4, .int x4)]) (pc := 1687) hx hb dL_law_1687 hl (by decide) rfl (fun ls hl => ?_)
  refine V_aload_n (pc := 1689) hx hb dL_law_1689 rfl (lv_at hl 3 rfl) ?_
  refine lv_aload_n (pc := 1690) hx hb dL_law_1690 rfl (lv_at hl 1 rfl) ?_
  refine lv_iload (pc := 1691) hx hb dL_law_1691 (lv_at hl 5 rfl) ?_
  refine lv_iconst (v := (1 : Int32)) (pc := 1693) hx hb dL_law_1693 (by decide) ?_
  refine lv_iadd (pc := 1694) hx hb dL_law_1694 ?_
  obtain ⟨c271, hrun⟩ := gd_some hrun
  refine V_sld (pc := 1695) C hH hS dL_law_1695 c271 ?_
  refine lv_aload_n (pc := 1696) hx hb dL_law_1696 rfl (lv_at hl 1 rfl) ?_
  refine lv_iload (pc := 1697) hx hb dL_law_1697 (lv_at hl 5 rfl) ?_
  refine lv_iconst (v := (2 : Int32)) (pc := 1699) hx hb dL_law_1699 (by decide) ?_
  refine lv_iadd (pc := 1700) hx hb dL_law_1700 ?_
  obtain ⟨c272, hrun⟩ := gd_some hrun
  refine V_sld (pc := 1701) C hH hS dL_law_1701 c272 ?_
  refine lv_aload_n (pc := 1702) hx hb dL_law_1702 rfl (lv_at hl 1 rfl) ?_
  refine lv_iload (pc := 1703) hx hb dL_law_1703 (lv_at hl 5 rfl) ?_
  refine lv_iconst (v := (3 : Int32)) (pc := 1705) hx hb dL_law_1705 (by decide) ?_
  refine lv_iadd (pc := 1706) hx hb dL_law_1706 ?_
  obtain ⟨c273, hrun⟩ := gd_some hrun
  refine V_sld (pc := 1707) C hH hS dL_law_1707 c273 ?_
  obtain ⟨c276, hrun⟩ := gd_some hrun
  refine V_bdN (pc := 1708) hL hrun (fun rr1 e1 => Z_runV (rest := []) C hH (m_X4_propose hl9 e1) wV_X0_237 c276 rfl (by decide) rfl rfl ⟨by decide, by decide⟩ rfl (Nat.le_of_ble_eq_true rfl) hl.1 dL_law_1708) (fun v274 h275 H locs cells slots hH hL hrun => ?_)
  refine lv_istore (i := 6) (lv' := [(6, .int v274), (5, .int v269), (0, .ref b), (1, rv x1), (2, rv x2), (3, rv x3), (4, .int x4)]) (pc := 1711) hx hb dL_law_1711 hl (by decide) rfl (fun ls hl => ?_)
  refine V_aload_n (pc := 1713) hx hb dL_law_1713 rfl (lv_at hl 4 rfl) ?_
  obtain ⟨c279, hrun⟩ := gd_some hrun
  refine V_bdN (pc := 1714) hL hrun (fun rr1 e1 => Z_runV (rest := []) C hH (m_X4_thrown hl9 e1) wV_X0_170 c279 rfl (by decide) rfl rfl ⟨by decide, by decide⟩ rfl (Nat.le_of_ble_eq_true rfl) hl.1 dL_law_1714) (fun v277 h278 H locs cells slots hH hL hrun => ?_)
  refine lv_iload (pc := 1717) hx hb dL_law_1717 (lv_at hl 1 rfl) ?_
  refine lv_icmp_eq (tgt := 1724) (pc := 1719) hx hb dL_law_1719 (by decide) (fun c_ => ?_) (fun c_ => ?_)
  · have hrun := ite_t hrun c_
    refine lv_iload (pc := 1724) hx hb dL_law_1724 (lv_at hl 1 rfl) ?_
    refine lv_if_ne (tgt := 1741) (pc := 1726) hx hb dL_law_1726 (by decide) (fun c_ => ?_) (fun c_ => ?_)
    · have hrun := ite_f hrun c_
      exact b_L_law_1741 C hok hS K23 x0 x1 x2 x3 x4 h278 H locs cells slots ls hH hL (lv_sub hl [2, 3, 4, 5, 6] rfl) hrun
    · have hrun := ite_t hrun c_
      refine V_aload_n (pc := 1729) hx hb dL_law_1729 rfl (lv_at hl 5 rfl) ?_
      refine lv_iconst (v := (0 : Int32)) (pc := 1730) hx hb dL_law_1730 (by decide) ?_
      obtain ⟨c280, hrun⟩ := gd_some hrun
      refine V_lald (pc := 1731) C hH dL_law_1731 c280 ?_
      refine lv_iload (pc := 1732) hx hb dL_law_1732 (lv_at hl 0 rfl) ?_
      refine lv_i2l (pc := 1734) hx hb dL_law_1734 rfl ?_
      refine V_lcmp_eq (tgt := 1741) (pc := 1735) hx hb dL_law_1735 dL_law_1736 (by decide) (fun c_ => ?_) (fun c_ => ?_)
      · have hrun := ite_t hrun c_
        exact b_L_law_1741 C hok hS K23 x0 x1 x2 x3 x4 h278 H locs cells slots ls hH hL (lv_sub hl [2, 3, 4, 5, 6] rfl) hrun
      · have hrun := ite_f hrun c_
        refine lv_iconst (v := (0 : Int32)) (pc := 1739) hx hb dL_law_1739 (by decide) ?_
        exact V_lawret (pc := 1740) C hH hL hok hrun dL_law_1740
  · have hrun := ite_f hrun c_
    refine lv_iconst (v := (0 : Int32)) (pc := 1722) hx hb dL_law_1722 (by decide) ?_
    exact V_lawret (pc := 1723) C hH hL hok hrun dL_law_1723

theorem b_L_law_1785 {rr : (Int32 ⊕ Ex) × Hp} {k23 : Unit → Nat → Nat → Nat → Int32 → Hp → Rt Int32} {b L : Nat} {xs : Nat → Int32} {et9 : List (Nat × Nat × Nat × Nat)} (C : CX p l room_1 s m #[Value.ref b] meth c D s.heap cL_law "MassclaimLaw" 9 ret et9 8192 104096) (hok : rr.1 = .inl 1) (hS : va_X b L xs s s.heap ∧ b < s.heap.size) (K23 : ∀ (x0 : Unit) (x1 : Nat) (x2 : Nat) (x3 : Nat) (x4 : Int32) (h : Hp) (H : Heap) (locs : List Loc) (cells slots : Nat) (ls : Array Slot), HP D s.heap h H → LO s.heap locs → lv_has ls 9 [(0, .ref b), (1, rv x1), (2, rv x2), (3, rv x3), (4, .int x4)] → k23 x0 x1 x2 x3 x4 h = some rr → W p l e room_1 s m #[Value.ref b] below meth c H locs cells slots (lw_Z below #[Value.ref b] s) (F0 m 23 ls [])) : ∀ (x0 : Unit) (x1 : Nat) (x2 : Nat) (x3 : Nat) (x4 : Int32) (h : Hp) (H : Heap) (locs : List Loc) (cells slots : Nat) (ls : Array Slot), HP D s.heap h H → LO s.heap locs → lv_has ls 9 [(0, .ref b), (1, rv x1), (2, rv x2), (3, rv x3), (4, .int x4)] → f_L_law_1785 L xs k23 x0 x1 x2 x3 x4 h = some rr → W p l e room_1 s m #[Value.ref b] below meth c H locs cells slots (lw_Z below #[Value.ref b] s) (F0 m 1785 ls []) := by
  obtain ⟨⟨hx, hb, hml, hown, hts⟩, -⟩ := id C
  have hl9 := C.2.1.2.2.1
  intro x0 x1 x2 x3 x4 h H locs cells slots ls hH hL hl hrun
  unfold f_L_law_1785 at hrun
  refine lv_goto (tgt := 3277) (pc := 1785) hx hb dL_law_1785 (by decide) ?_
  exact b_L_law_3277 C hok hS K23 x0 x1 x2 x3 x4 h H locs cells slots ls hH hL (lv_sub hl [0, 1, 2, 3, 4] rfl) hrun

theorem b_L_law_1744 {rr : (Int32 ⊕ Ex) × Hp} {k23 : Unit → Nat → Nat → Nat → Int32 → Hp → Rt Int32} {b L : Nat} {xs : Nat → Int32} {et9 : List (Nat × Nat × Nat × Nat)} (C : CX p l room_1 s m #[Value.ref b] meth c D s.heap cL_law "MassclaimLaw" 9 ret et9 8192 104096) (hok : rr.1 = .inl 1) (hS : va_X b L xs s s.heap ∧ b < s.heap.size) (K23 : ∀ (x0 : Unit) (x1 : Nat) (x2 : Nat) (x3 : Nat) (x4 : Int32) (h : Hp) (H : Heap) (locs : List Loc) (cells slots : Nat) (ls : Array Slot), HP D s.heap h H → LO s.heap locs → lv_has ls 9 [(0, .ref b), (1, rv x1), (2, rv x2), (3, rv x3), (4, .int x4)] → k23 x0 x1 x2 x3 x4 h = some rr → W p l e room_1 s m #[Value.ref b] below meth c H locs cells slots (lw_Z below #[Value.ref b] s) (F0 m 23 ls [])) : ∀ (x0 : Unit) (x1 : Nat) (x2 : Nat) (x3 : Nat) (x4 : Int32) (h : Hp) (H : Heap) (locs : List Loc) (cells slots : Nat) (ls : Array Slot), HP D s.heap h H → LO s.heap locs → lv_has ls 9 [(0, .ref b), (1, rv x1), (2, rv x2), (3, rv x3), (4, .int x4)] → f_L_law_1744 L xs k23 x0 x1 x2 x3 x4 h = some rr → W p l e room_1 s m #[Value.ref b] below meth c H locs cells slots (lw_Z below #[Value.ref b] s) (F0 m 1744 ls []) := by
  obtain ⟨⟨hx, hb, hml, hown, hts⟩, -⟩ := id C
  have hl9 := C.2.1.2.2.1
  intro x0 x1 x2 x3 x4 h H locs cells slots ls hH hL hl hrun
  unfold f_L_law_1744 at hrun
  refine V_aload_n (pc := 1744) hx hb dL_law_1744 rfl (lv_at hl 1 rfl) ?_
  refine V_aload_n (pc := 1745) hx hb dL_law_1745 rfl (lv_at hl 3 rfl) ?_
  refine V_bdN (pc := 1746) hL hrun (fun rr1 e1 => Z_runSH (rest := []) C hH (m_X0_approve hl9 e1) wSH_X0_238 rfl ⟨by decide, by decide⟩ rfl (Nat.le_of_ble_eq_true rfl) hl.1 dL_law_1746) (fun v281 h282 H locs cells slots hH hL hrun => ?_)
  refine lv_istore (i := 5) (lv' := [(5, .int v281), (0, .ref b), (1, rv x1), (2, rv x2), (3, rv x3), (4, .int x4)]) (pc := 1749) hx hb dL_law_1749 hl (by decide) rfl (fun ls hl => ?_)
  refine V_aload_n (pc := 1751) hx hb dL_law_1751 rfl (lv_at hl 3 rfl) ?_
  obtain ⟨c285, hrun⟩ := gd_some hrun
  refine V_bdN (pc := 1752) hL hrun (fun rr1 e1 => Z_runV (rest := []) C hH (m_X4_approve hl9 e1) wV_X0_241 c285 rfl (by decide) rfl rfl ⟨by decide, by decide⟩ rfl (Nat.le_of_ble_eq_true rfl) hl.1 dL_law_1752) (fun v283 h284 H locs cells slots hH hL hrun => ?_)
  refine lv_istore (i := 6) (lv' := [(6, .int v283), (5, .int v281), (0, .ref b), (1, rv x1), (2, rv x2), (3, rv x3), (4, .int x4)]) (pc := 1755) hx hb dL_law_1755 hl (by decide) rfl (fun ls hl => ?_)
  refine V_aload_n (pc := 1757) hx hb dL_law_1757 rfl (lv_at hl 4 rfl) ?_
  obtain ⟨c288, hrun⟩ := gd_some hrun
  refine V_bdN (pc := 1758) hL hrun (fun rr1 e1 => Z_runV (rest := []) C hH (m_X4_thrown hl9 e1) wV_X0_170 c288 rfl (by decide) rfl rfl ⟨by decide, by decide⟩ rfl (Nat.le_of_ble_eq_true rfl) hl.1 dL_law_1758) (fun v286 h287 H locs cells slots hH hL hrun => ?_)
  refine lv_iload (pc := 1761) hx hb dL_law_1761 (lv_at hl 1 rfl) ?_
  refine lv_icmp_eq (tgt := 1768) (pc := 1763) hx hb dL_law_1763 (by decide) (fun c_ => ?_) (fun c_ => ?_)
  · have hrun := ite_t hrun c_
    refine lv_iload (pc := 1768) hx hb dL_law_1768 (lv_at hl 1 rfl) ?_
    refine lv_if_ne (tgt := 1785) (pc := 1770) hx hb dL_law_1770 (by decide) (fun c_ => ?_) (fun c_ => ?_)
    · have hrun := ite_f hrun c_
      exact b_L_law_1785 C hok hS K23 x0 x1 x2 x3 x4 h287 H locs cells slots ls hH hL (lv_sub hl [2, 3, 4, 5, 6] rfl) hrun
    · have hrun := ite_t hrun c_
      refine V_aload_n (pc := 1773) hx hb dL_law_1773 rfl (lv_at hl 5 rfl) ?_
      refine lv_iconst (v := (0 : Int32)) (pc := 1774) hx hb dL_law_1774 (by decide) ?_
      obtain ⟨c289, hrun⟩ := gd_some hrun
      refine V_lald (pc := 1775) C hH dL_law_1775 c289 ?_
      refine lv_iload (pc := 1776) hx hb dL_law_1776 (lv_at hl 0 rfl) ?_
      refine lv_i2l (pc := 1778) hx hb dL_law_1778 rfl ?_
      refine V_lcmp_eq (tgt := 1785) (pc := 1779) hx hb dL_law_1779 dL_law_1780 (by decide) (fun c_ => ?_) (fun c_ => ?_)
      · have hrun := ite_t hrun c_
        exact b_L_law_1785 C hok hS K23 x0 x1 x2 x3 x4 h287 H locs cells slots ls hH hL (lv_sub hl [2, 3, 4, 5, 6] rfl) hrun
      · have hrun := ite_f hrun c_
        refine lv_iconst (v := (0 : Int32)) (pc := 1783) hx hb dL_law_1783 (by decide) ?_
        exact V_lawret (pc := 1784) C hH hL hok hrun dL_law_1784
  · have hrun := ite_f hrun c_
    refine lv_iconst (v := (0 : Int32)) (pc := 1766) hx hb dL_law_1766 (by decide) ?_
    exact V_lawret (pc := 1767) C hH hL hok hrun dL_law_1767

theorem b_L_law_1869 {rr : (Int32 ⊕ Ex) × Hp} {k23 : Unit → Nat → Nat → Nat → Int32 → Hp → Rt Int32} {b L : Nat} {xs : Nat → Int32} {et9 : List (Nat × Nat × Nat × Nat)} (C : CX p l room_1 s m #[Value.ref b] meth c D s.heap cL_law "MassclaimLaw" 9 ret et9 8192 104096) (hok : rr.1 = .inl 1) (hS : va_X b L xs s s.heap ∧ b < s.heap.size) (K23 : ∀ (x0 : Unit) (x1 : Nat) (x2 : Nat) (x3 : Nat) (x4 : Int32) (h : Hp) (H : Heap) (locs : List Loc) (cells slots : Nat) (ls : Array Slot), HP D s.heap h H → LO s.heap locs → lv_has ls 9 [(0, .ref b), (1, rv x1), (2, rv x2), (3, rv x3), (4, .int x4)] → k23 x0 x1 x2 x3 x4 h = some rr → W p l e room_1 s m #[Value.ref b] below meth c H locs cells slots (lw_Z below #[Value.ref b] s) (F0 m 23 ls [])) : ∀ (x0 : Unit) (x1 : Nat) (x2 : Nat) (x3 : Nat) (x4 : Int32) (h : Hp) (H : Heap) (locs : List Loc) (cells slots : Nat) (ls : Array Slot), HP D s.heap h H → LO s.heap locs → lv_has ls 9 [(0, .ref b), (1, rv x1), (2, rv x2), (3, rv x3), (4, .int x4)] → f_L_law_1869 L xs k23 x0 x1 x2 x3 x4 h = some rr → W p l e room_1 s m #[Value.ref b] below meth c H locs cells slots (lw_Z below #[Value.ref b] s) (F0 m 1869 ls []) := by
  obtain ⟨⟨hx, hb, hml, hown, hts⟩, -⟩ := id C
  have hl9 := C.2.1.2.2.1
  intro x0 x1 x2 x3 x4 h H locs cells slots ls hH hL hl hrun
  unfold f_L_law_1869 at hrun
  refine lv_goto (tgt := 3277) (pc := 1869) hx hb dL_law_1869 (by decide) ?_
  exact b_L_law_3277 C hok hS K23 x0 x1 x2 x3 x4 h H locs cells slots ls hH hL (lv_sub hl [0, 1, 2, 3, 4] rfl) hrun

theorem b_L_law_1836 {rr : (Int32 ⊕ Ex) × Hp} {k23 : Unit → Nat → Nat → Nat → Int32 → Hp → Rt Int32} {b L : Nat} {xs : Nat → Int32} {et9 : List (Nat × Nat × Nat × Nat)} (C : CX p l room_1 s m #[Value.ref b] meth c D s.heap cL_law "MassclaimLaw" 9 ret et9 8192 104096) (hok : rr.1 = .inl 1) (hS : va_X b L xs s s.heap ∧ b < s.heap.size) (K23 : ∀ (x0 : Unit) (x1 : Nat) (x2 : Nat) (x3 : Nat) (x4 : Int32) (h : Hp) (H : Heap) (locs : List Loc) (cells slots : Nat) (ls : Array Slot), HP D s.heap h H → LO s.heap locs → lv_has ls 9 [(0, .ref b), (1, rv x1), (2, rv x2), (3, rv x3), (4, .int x4)] → k23 x0 x1 x2 x3 x4 h = some rr → W p l e room_1 s m #[Value.ref b] below meth c H locs cells slots (lw_Z below #[Value.ref b] s) (F0 m 23 ls [])) : ∀ (x0 : Unit) (x1 : Nat) (x2 : Nat) (x3 : Nat) (x4 : Int32) (x5 : Int32) (y0 : Nat) (y1 : Int32) (y2 : Int32) (h : Hp) (H : Heap) (locs : List Loc) (cells slots : Nat) (ls : Array Slot), HP D s.heap h H → LO s.heap locs → lv_has ls 9 [(0, .ref b), (1, rv x1), (2, rv x2), (3, rv x3), (4, .int x4), (5, .int x5)] → f_L_law_1836 L xs k23 x0 x1 x2 x3 x4 x5 y0 y1 y2 h = some rr → W p l e room_1 s m #[Value.ref b] below meth c H locs cells slots (lw_Z below #[Value.ref b] s) (F0 m 1836 ls [.int y2, .int y1, rv y0]) := by
  obtain ⟨⟨hx, hb, hml, hown, hts⟩, -⟩ := id C
  have hl9 := C.2.1.2.2.1
  intro x0 x1 x2 x3 x4 x5 y0 y1 y2 h H locs cells slots ls hH hL hl hrun
  unfold f_L_law_1836 at hrun
  obtain ⟨c292, hrun⟩ := gd_some hrun
  refine V_bdN (pc := 1836) hL hrun (fun rr1 e1 => Z_runV (rest := []) C hH (m_X4_vote hl9 e1) wV_X0_244 c292 rfl (by decide) rfl rfl ⟨by decide, by decide⟩ rfl (Nat.le_of_ble_eq_true rfl) hl.1 dL_law_1836) (fun v290 h291 H locs cells slots hH hL hrun => ?_)
  refine lv_istore (i := 6) (lv' := [(6, .int v290), (0, .ref b), (1, rv x1), (2, rv x2), (3, rv x3), (4, .int x4), (5, .int x5)]) (pc := 1839) hx hb dL_law_1839 hl (by decide) rfl (fun ls hl => ?_)
  refine V_aload_n (pc := 1841) hx hb dL_law_1841 rfl (lv_at hl 3 rfl) ?_
  obtain ⟨c295, hrun⟩ := gd_some hrun
  refine V_bdN (pc := 1842) hL hrun (fun rr1 e1 => Z_runV (rest := []) C hH (m_X4_thrown hl9 e1) wV_X0_170 c295 rfl (by decide) rfl rfl ⟨by decide, by decide⟩ rfl (Nat.le_of_ble_eq_true rfl) hl.1 dL_law_1842) (fun v293 h294 H locs cells slots hH hL hrun => ?_)
  refine lv_iload (pc := 1845) hx hb dL_law_1845 (lv_at hl 6 rfl) ?_
  refine lv_icmp_eq (tgt := 1852) (pc := 1847) hx hb dL_law_1847 (by decide) (fun c_ => ?_) (fun c_ => ?_)
  · have hrun := ite_t hrun c_
    refine lv_iload (pc := 1852) hx hb dL_law_1852 (lv_at hl 6 rfl) ?_
    refine lv_if_ne (tgt := 1869) (pc := 1854) hx hb dL_law_1854 (by decide) (fun c_ => ?_) (fun c_ => ?_)
    · have hrun := ite_f hrun c_
      exact b_L_law_1869 C hok hS K23 x0 x1 x2 x3 x4 h294 H locs cells slots ls hH hL (lv_sub hl [1, 2, 3, 4, 5] rfl) hrun
    · have hrun := ite_t hrun c_
      refine V_aload_n (pc := 1857) hx hb dL_law_1857 rfl (lv_at hl 4 rfl) ?_
      refine lv_iconst (v := (0 : Int32)) (pc := 1858) hx hb dL_law_1858 (by decide) ?_
      obtain ⟨c296, hrun⟩ := gd_some hrun
      refine V_lald (pc := 1859) C hH dL_law_1859 c296 ?_
      refine lv_iload (pc := 1860) hx hb dL_law_1860 (lv_at hl 0 rfl) ?_
      refine lv_i2l (pc := 1862) hx hb dL_law_1862 rfl ?_
      refine V_lcmp_eq (tgt := 1869) (pc := 1863) hx hb dL_law_1863 dL_law_1864 (by decide) (fun c_ => ?_) (fun c_ => ?_)
      · have hrun := ite_t hrun c_
        exact b_L_law_1869 C hok hS K23 x0 x1 x2 x3 x4 h294 H locs cells slots ls hH hL (lv_sub hl [1, 2, 3, 4, 5] rfl) hrun
      · have hrun := ite_f hrun c_
        refine lv_iconst (v := (0 : Int32)) (pc := 1867) hx hb dL_law_1867 (by decide) ?_
        exact V_lawret (pc := 1868) C hH hL hok hrun dL_law_1868
  · have hrun := ite_f hrun c_
    refine lv_iconst (v := (0 : Int32)) (pc := 1850) hx hb dL_law_1850 (by decide) ?_
    exact V_lawret (pc := 1851) C hH hL hok hrun dL_law_1851

theorem b_L_law_1809 {rr : (Int32 ⊕ Ex) × Hp} {k23 : Unit → Nat → Nat → Nat → Int32 → Hp → Rt Int32} {b L : Nat} {xs : Nat → Int32} {et9 : List (Nat × Nat × Nat × Nat)} (C : CX p l room_1 s m #[Value.ref b] meth c D s.heap cL_law "MassclaimLaw" 9 ret et9 8192 104096) (hok : rr.1 = .inl 1) (hS : va_X b L xs s s.heap ∧ b < s.heap.size) (K23 : ∀ (x0 : Unit) (x1 : Nat) (x2 : Nat) (x3 : Nat) (x4 : Int32) (h : Hp) (H : Heap) (locs : List Loc) (cells slots : Nat) (ls : Array Slot), HP D s.heap h H → LO s.heap locs → lv_has ls 9 [(0, .ref b), (1, rv x1), (2, rv x2), (3, rv x3), (4, .int x4)] → k23 x0 x1 x2 x3 x4 h = some rr → W p l e room_1 s m #[Value.ref b] below meth c H locs cells slots (lw_Z below #[Value.ref b] s) (F0 m 23 ls [])) : ∀ (x0 : Unit) (x1 : Nat) (x2 : Nat) (x3 : Nat) (x4 : Int32) (y0 : Nat) (y1 : Int32) (y2 : Int32) (h : Hp) (H : Heap) (locs : List Loc) (cells slots : Nat) (ls : Array Slot), HP D s.heap h H → LO s.heap locs → lv_has ls 9 [(0, .ref b), (1, rv x1), (2, rv x2), (3, rv x3), (4, .int x4)] → f_L_law_1809 L xs k23 x0 x1 x2 x3 x4 y0 y1 y2 h = some rr → W p l e room_1 s m #[Value.ref b] below meth c H locs cells slots (lw_Z below #[Value.ref b] s) (F0 m 1809 ls [.int y2, .int y1, rv y0]) := by
  obtain ⟨⟨hx, hb, hml, hown, hts⟩, -⟩ := id C
  have hl9 := C.2.1.2.2.1
  intro x0 x1 x2 x3 x4 y0 y1 y2 h H locs cells slots ls hH hL hl hrun
  unfold f_L_law_1809 at hrun
  refine V_aload_n (pc := 1809) hx hb dL_law_1809 rfl (lv_at hl 3 rfl) ?_
  refine V_bdN (pc := 1810) hL hrun (fun rr1 e1 => Z_runSH (rest := []) C hH (m_X0_vote hl9 e1) wSH_X0_242 rfl ⟨by decide, by decide⟩ rfl (Nat.le_of_ble_eq_true rfl) hl.1 dL_law_1810) (fun v297 h298 H locs cells slots hH hL hrun => ?_)
  refine lv_istore (i := 5) (lv' := [(5, .int v297), (0, .ref b), (1, rv x1), (2, rv x2), (3, rv x3), (4, .int x4)]) (pc := 1813) hx hb dL_law_1813 hl (by decide) rfl (fun ls hl => ?_)
  refine V_aload_n (pc := 1815) hx hb dL_law_1815 rfl (lv_at hl 3 rfl) ?_
  refine lv_aload_n (pc := 1816) hx hb dL_law_1816 rfl (lv_at hl 1 rfl) ?_
  refine lv_iload (pc := 1817) hx hb dL_law_1817 (lv_at hl 5 rfl) ?_
  refine lv_iconst (v := (1 : Int32)) (pc := 1819) hx hb dL_law_1819 (by decide) ?_
  refine lv_iadd (pc := 1820) hx hb dL_law_1820 ?_
  obtain ⟨c299, hrun⟩ := gd_some hrun
  refine V_sld (pc := 1821) C hH hS dL_law_1821 c299 ?_
  refine lv_aload_n (pc := 1822) hx hb dL_law_1822 rfl (lv_at hl 1 rfl) ?_
  refine lv_iload (pc := 1823) hx hb dL_law_1823 (lv_at hl 5 rfl) ?_
  refine lv_iconst (v := (2 : Int32)) (pc := 1825) hx hb dL_law_1825 (by decide) ?_
  refine lv_iadd (pc := 1826) hx hb dL_law_1826 ?_
  obtain ⟨c300, hrun⟩ := gd_some hrun
  refine V_sld (pc := 1827) C hH hS dL_law_1827 c300 ?_
  refine lv_if_eq (tgt := 1835) (pc := 1828) hx hb dL_law_1828 (by decide) (fun c_ => ?_) (fun c_ => ?_)
  · have hrun := ite_t hrun c_
    refine lv_iconst (v := (0 : Int32)) (pc := 1835) hx hb dL_law_1835 (by decide) ?_
    exact b_L_law_1836 C hok hS K23 x0 x1 x2 x3 x4 v297 x2 (xs ((x4 + (1 : Int32))).toNatClampNeg) (0 : Int32) h298 H locs cells slots ls hH hL (lv_sub hl [1, 2, 3, 4, 5, 0] rfl) hrun
  · have hrun := ite_f hrun c_
    refine lv_iconst (v := (1 : Int32)) (pc := 1831) hx hb dL_law_1831 (by decide) ?_
    refine lv_goto (tgt := 1836) (pc := 1832) hx hb dL_law_1832 (by decide) ?_
    exact b_L_law_1836 C hok hS K23 x0 x1 x2 x3 x4 v297 x2 (xs ((x4 + (1 : Int32))).toNatClampNeg) (1 : Int32) h298 H locs cells slots ls hH hL (lv_sub hl [1, 2, 3, 4, 5, 0] rfl) hrun

theorem b_L_law_1788 {rr : (Int32 ⊕ Ex) × Hp} {k23 : Unit → Nat → Nat → Nat → Int32 → Hp → Rt Int32} {b L : Nat} {xs : Nat → Int32} {et9 : List (Nat × Nat × Nat × Nat)} (C : CX p l room_1 s m #[Value.ref b] meth c D s.heap cL_law "MassclaimLaw" 9 ret et9 8192 104096) (hok : rr.1 = .inl 1) (hS : va_X b L xs s s.heap ∧ b < s.heap.size) (K23 : ∀ (x0 : Unit) (x1 : Nat) (x2 : Nat) (x3 : Nat) (x4 : Int32) (h : Hp) (H : Heap) (locs : List Loc) (cells slots : Nat) (ls : Array Slot), HP D s.heap h H → LO s.heap locs → lv_has ls 9 [(0, .ref b), (1, rv x1), (2, rv x2), (3, rv x3), (4, .int x4)] → k23 x0 x1 x2 x3 x4 h = some rr → W p l e room_1 s m #[Value.ref b] below meth c H locs cells slots (lw_Z below #[Value.ref b] s) (F0 m 23 ls [])) : ∀ (x0 : Unit) (x1 : Nat) (x2 : Nat) (x3 : Nat) (x4 : Int32) (h : Hp) (H : Heap) (locs : List Loc) (cells slots : Nat) (ls : Array Slot), HP D s.heap h H → LO s.heap locs → lv_has ls 9 [(0, .ref b), (1, rv x1), (2, rv x2), (3, rv x3), (4, .int x4)] → f_L_law_1788 L xs k23 x0 x1 x2 x3 x4 h = some rr → W p l e room_1 s m #[Value.ref b] below meth c H locs cells slots (lw_Z below #[Value.ref b] s) (F0 m 1788 ls []) := by
  obtain ⟨⟨hx, hb, hml, hown, hts⟩, -⟩ := id C
  have hl9 := C.2.1.2.2.1
  intro x0 x1 x2 x3 x4 h H locs cells slots ls hH hL hl hrun
  unfold f_L_law_1788 at hrun
  refine V_aload_n (pc := 1788) hx hb dL_law_1788 rfl (lv_at hl 1 rfl) ?_
  refine lv_aload_n (pc := 1789) hx hb dL_law_1789 rfl (lv_at hl 0 rfl) ?_
  refine lv_iload (pc := 1790) hx hb dL_law_1790 (lv_at hl 4 rfl) ?_
  refine lv_iconst (v := (1 : Int32)) (pc := 1792) hx hb dL_law_1792 (by decide) ?_
  refine lv_iadd (pc := 1793) hx hb dL_law_1793 ?_
  obtain ⟨c301, hrun⟩ := gd_some hrun
  refine V_sld (pc := 1794) C hH hS dL_law_1794 c301 ?_
  refine lv_aload_n (pc := 1795) hx hb dL_law_1795 rfl (lv_at hl 0 rfl) ?_
  refine lv_iload (pc := 1796) hx hb dL_law_1796 (lv_at hl 4 rfl) ?_
  refine lv_iconst (v := (2 : Int32)) (pc := 1798) hx hb dL_law_1798 (by decide) ?_
  refine lv_iadd (pc := 1799) hx hb dL_law_1799 ?_
  obtain ⟨c302, hrun⟩ := gd_some hrun
  refine V_sld (pc := 1800) C hH hS dL_law_1800 c302 ?_
  refine lv_if_eq (tgt := 1808) (pc := 1801) hx hb dL_law_1801 (by decide) (fun c_ => ?_) (fun c_ => ?_)
  · have hrun := ite_t hrun c_
    refine lv_iconst (v := (0 : Int32)) (pc := 1808) hx hb dL_law_1808 (by decide) ?_
    exact b_L_law_1809 C hok hS K23 x0 x1 x2 x3 x4 x1 (xs ((x4 + (1 : Int32))).toNatClampNeg) (0 : Int32) h H locs cells slots ls hH hL (lv_sub hl [0, 1, 2, 3, 4] rfl) hrun
  · have hrun := ite_f hrun c_
    refine lv_iconst (v := (1 : Int32)) (pc := 1804) hx hb dL_law_1804 (by decide) ?_
    refine lv_goto (tgt := 1809) (pc := 1805) hx hb dL_law_1805 (by decide) ?_
    exact b_L_law_1809 C hok hS K23 x0 x1 x2 x3 x4 x1 (xs ((x4 + (1 : Int32))).toNatClampNeg) (1 : Int32) h H locs cells slots ls hH hL (lv_sub hl [0, 1, 2, 3, 4] rfl) hrun

theorem b_L_law_1937 {rr : (Int32 ⊕ Ex) × Hp} {k23 : Unit → Nat → Nat → Nat → Int32 → Hp → Rt Int32} {b L : Nat} {xs : Nat → Int32} {et9 : List (Nat × Nat × Nat × Nat)} (C : CX p l room_1 s m #[Value.ref b] meth c D s.heap cL_law "MassclaimLaw" 9 ret et9 8192 104096) (hok : rr.1 = .inl 1) (hS : va_X b L xs s s.heap ∧ b < s.heap.size) (K23 : ∀ (x0 : Unit) (x1 : Nat) (x2 : Nat) (x3 : Nat) (x4 : Int32) (h : Hp) (H : Heap) (locs : List Loc) (cells slots : Nat) (ls : Array Slot), HP D s.heap h H → LO s.heap locs → lv_has ls 9 [(0, .ref b), (1, rv x1), (2, rv x2), (3, rv x3), (4, .int x4)] → k23 x0 x1 x2 x3 x4 h = some rr → W p l e room_1 s m #[Value.ref b] below meth c H locs cells slots (lw_Z below #[Value.ref b] s) (F0 m 23 ls [])) : ∀ (x0 : Unit) (x1 : Nat) (x2 : Nat) (x3 : Nat) (x4 : Int32) (h : Hp) (H : Heap) (locs : List Loc) (cells slots : Nat) (ls : Array Slot), HP D s.heap h H → LO s.heap locs → lv_has ls 9 [(0, .ref b), (1, rv x1), (2, rv x2), (3, rv x3), (4, .int x4)] → f_L_law_1937 L xs k23 x0 x1 x2 x3 x4 h = some rr → W p l e room_1 s m #[Value.ref b] below meth c H locs cells slots (lw_Z below #[Value.ref b] s) (F0 m 1937 ls []) := by
  obtain ⟨⟨hx, hb, hml, hown, hts⟩, -⟩ := id C
  have hl9 := C.2.1.2.2.1
  intro x0 x1 x2 x3 x4 h H locs cells slots ls hH hL hl hrun
  unfold f_L_law_1937 at hrun
  refine lv_goto (tgt := 3277) (pc := 1937) hx hb dL_law_1937 (by decide) ?_
  exact b_L_law_3277 C hok hS K23 x0 x1 x2 x3 x4 h H locs cells slots ls hH hL (lv_sub hl [0, 1, 2, 3, 4] rfl) hrun

theorem b_L_law_1872 {rr : (Int32 ⊕ Ex) × Hp} {k23 : Unit → Nat → Nat → Nat → Int32 → Hp → Rt Int32} {b L : Nat} {xs : Nat → Int32} {et9 : List (Nat × Nat × Nat × Nat)} (C : CX p l room_1 s m #[Value.ref b] meth c D s.heap cL_law "MassclaimLaw" 9 ret et9 8192 104096) (hok : rr.1 = .inl 1) (hS : va_X b L xs s s.heap ∧ b < s.heap.size) (K23 : ∀ (x0 : Unit) (x1 : Nat) (x2 : Nat) (x3 : Nat) (x4 : Int32) (h : Hp) (H : Heap) (locs : List Loc) (cells slots : Nat) (ls : Array Slot), HP D s.heap h H → LO s.heap locs → lv_has ls 9 [(0, .ref b), (1, rv x1), (2, rv x2), (3, rv x3), (4, .int x4)] → k23 x0 x1 x2 x3 x4 h = some rr → W p l e room_1 s m #[Value.ref b] below meth c H locs cells slots (lw_Z below #[Value.ref b] s) (F0 m 23 ls [])) : ∀ (x0 : Unit) (x1 : Nat) (x2 : Nat) (x3 : Nat) (x4 : Int32) (h : Hp) (H : Heap) (locs : List Loc) (cells slots : Nat) (ls : Array Slot), HP D s.heap h H → LO s.heap locs → lv_has ls 9 [(0, .ref b), (1, rv x1), (2, rv x2), (3, rv x3), (4, .int x4)] → f_L_law_1872 L xs k23 x0 x1 x2 x3 x4 h = some rr → W p l e room_1 s m #[Value.ref b] below meth c H locs cells slots (lw_Z below #[Value.ref b] s) (F0 m 1872 ls []) := by
  obtain ⟨⟨hx, hb, hml, hown, hts⟩, -⟩ := id C
  have hl9 := C.2.1.2.2.1
  intro x0 x1 x2 x3 x4 h H locs cells slots ls hH hL hl hrun
  unfold f_L_law_1872 at hrun
  refine V_aload_n (pc := 1872) hx hb dL_law_1872 rfl (lv_at hl 1 rfl) ?_
  refine lv_aload_n (pc := 1873) hx hb dL_law_1873 rfl (lv_at hl 0 rfl) ?_
  refine lv_iload (pc := 1874) hx hb dL_law_1874 (lv_at hl 4 rfl) ?_
  refine lv_iconst (v := (1 : Int32)) (pc := 1876) hx hb dL_law_1876 (by decide) ?_
  refine lv_iadd (pc := 1877) hx hb dL_law_1877 ?_
  obtain ⟨c303, hrun⟩ := gd_some hrun
  refine V_sld (pc := 1878) C hH hS dL_law_1878 c303 ?_
  refine lv_aload_n (pc := 1879) hx hb dL_law_1879 rfl (lv_at hl 0 rfl) ?_
  refine lv_iload (pc := 1880) hx hb dL_law_1880 (lv_at hl 4 rfl) ?_
  refine lv_iconst (v := (2 : Int32)) (pc := 1882) hx hb dL_law_1882 (by decide) ?_
  refine lv_iadd (pc := 1883) hx hb dL_law_1883 ?_
  obtain ⟨c304, hrun⟩ := gd_some hrun
  refine V_sld (pc := 1884) C hH hS dL_law_1884 c304 ?_
  refine V_aload_n (pc := 1885) hx hb dL_law_1885 rfl (lv_at hl 3 rfl) ?_
  refine V_bdN (pc := 1886) hL hrun (fun rr1 e1 => Z_runSH (rest := []) C hH (m_X0_object hl9 e1) wSH_X0_245 rfl ⟨by decide, by decide⟩ rfl (Nat.le_of_ble_eq_true rfl) hl.1 dL_law_1886) (fun v305 h306 H locs cells slots hH hL hrun => ?_)
  refine lv_istore (i := 5) (lv' := [(5, .int v305), (0, .ref b), (1, rv x1), (2, rv x2), (3, rv x3), (4, .int x4)]) (pc := 1889) hx hb dL_law_1889 hl (by decide) rfl (fun ls hl => ?_)
  refine V_aload_n (pc := 1891) hx hb dL_law_1891 rfl (lv_at hl 3 rfl) ?_
  refine lv_aload_n (pc := 1892) hx hb dL_law_1892 rfl (lv_at hl 1 rfl) ?_
  refine lv_iload (pc := 1893) hx hb dL_law_1893 (lv_at hl 5 rfl) ?_
  refine lv_iconst (v := (1 : Int32)) (pc := 1895) hx hb dL_law_1895 (by decide) ?_
  refine lv_iadd (pc := 1896) hx hb dL_law_1896 ?_
  obtain ⟨c307, hrun⟩ := gd_some hrun
  refine V_sld (pc := 1897) C hH hS dL_law_1897 c307 ?_
  refine lv_aload_n (pc := 1898) hx hb dL_law_1898 rfl (lv_at hl 1 rfl) ?_
  refine lv_iload (pc := 1899) hx hb dL_law_1899 (lv_at hl 5 rfl) ?_
  refine lv_iconst (v := (2 : Int32)) (pc := 1901) hx hb dL_law_1901 (by decide) ?_
  refine lv_iadd (pc := 1902) hx hb dL_law_1902 ?_
  obtain ⟨c308, hrun⟩ := gd_some hrun
  refine V_sld (pc := 1903) C hH hS dL_law_1903 c308 ?_
  obtain ⟨c311, hrun⟩ := gd_some hrun
  refine V_bdN (pc := 1904) hL hrun (fun rr1 e1 => Z_runV (rest := []) C hH (m_X4_object hl9 e1) wV_X0_247 c311 rfl (by decide) rfl rfl ⟨by decide, by decide⟩ rfl (Nat.le_of_ble_eq_true rfl) hl.1 dL_law_1904) (fun v309 h310 H locs cells slots hH hL hrun => ?_)
  refine lv_istore (i := 6) (lv' := [(6, .int v309), (5, .int v305), (0, .ref b), (1, rv x1), (2, rv x2), (3, rv x3), (4, .int x4)]) (pc := 1907) hx hb dL_law_1907 hl (by decide) rfl (fun ls hl => ?_)
  refine V_aload_n (pc := 1909) hx hb dL_law_1909 rfl (lv_at hl 4 rfl) ?_
  obtain ⟨c314, hrun⟩ := gd_some hrun
  refine V_bdN (pc := 1910) hL hrun (fun rr1 e1 => Z_runV (rest := []) C hH (m_X4_thrown hl9 e1) wV_X0_170 c314 rfl (by decide) rfl rfl ⟨by decide, by decide⟩ rfl (Nat.le_of_ble_eq_true rfl) hl.1 dL_law_1910) (fun v312 h313 H locs cells slots hH hL hrun => ?_)
  refine lv_iload (pc := 1913) hx hb dL_law_1913 (lv_at hl 1 rfl) ?_
  refine lv_icmp_eq (tgt := 1920) (pc := 1915) hx hb dL_law_1915 (by decide) (fun c_ => ?_) (fun c_ => ?_)
  · have hrun := ite_t hrun c_
    refine lv_iload (pc := 1920) hx hb dL_law_1920 (lv_at hl 1 rfl) ?_
    refine lv_if_ne (tgt := 1937) (pc := 1922) hx hb dL_law_1922 (by decide) (fun c_ => ?_) (fun c_ => ?_)
    · have hrun := ite_f hrun c_
      exact b_L_law_1937 C hok hS K23 x0 x1 x2 x3 x4 h313 H locs cells slots ls hH hL (lv_sub hl [2, 3, 4, 5, 6] rfl) hrun
    · have hrun := ite_t hrun c_
      refine V_aload_n (pc := 1925) hx hb dL_law_1925 rfl (lv_at hl 5 rfl) ?_
      refine lv_iconst (v := (0 : Int32)) (pc := 1926) hx hb dL_law_1926 (by decide) ?_
      obtain ⟨c315, hrun⟩ := gd_some hrun
      refine V_lald (pc := 1927) C hH dL_law_1927 c315 ?_
      refine lv_iload (pc := 1928) hx hb dL_law_1928 (lv_at hl 0 rfl) ?_
      refine lv_i2l (pc := 1930) hx hb dL_law_1930 rfl ?_
      refine V_lcmp_eq (tgt := 1937) (pc := 1931) hx hb dL_law_1931 dL_law_1932 (by decide) (fun c_ => ?_) (fun c_ => ?_)
      · have hrun := ite_t hrun c_
        exact b_L_law_1937 C hok hS K23 x0 x1 x2 x3 x4 h313 H locs cells slots ls hH hL (lv_sub hl [2, 3, 4, 5, 6] rfl) hrun
      · have hrun := ite_f hrun c_
        refine lv_iconst (v := (0 : Int32)) (pc := 1935) hx hb dL_law_1935 (by decide) ?_
        exact V_lawret (pc := 1936) C hH hL hok hrun dL_law_1936
  · have hrun := ite_f hrun c_
    refine lv_iconst (v := (0 : Int32)) (pc := 1918) hx hb dL_law_1918 (by decide) ?_
    exact V_lawret (pc := 1919) C hH hL hok hrun dL_law_1919

theorem b_L_law_1992 {rr : (Int32 ⊕ Ex) × Hp} {k23 : Unit → Nat → Nat → Nat → Int32 → Hp → Rt Int32} {b L : Nat} {xs : Nat → Int32} {et9 : List (Nat × Nat × Nat × Nat)} (C : CX p l room_1 s m #[Value.ref b] meth c D s.heap cL_law "MassclaimLaw" 9 ret et9 8192 104096) (hok : rr.1 = .inl 1) (hS : va_X b L xs s s.heap ∧ b < s.heap.size) (K23 : ∀ (x0 : Unit) (x1 : Nat) (x2 : Nat) (x3 : Nat) (x4 : Int32) (h : Hp) (H : Heap) (locs : List Loc) (cells slots : Nat) (ls : Array Slot), HP D s.heap h H → LO s.heap locs → lv_has ls 9 [(0, .ref b), (1, rv x1), (2, rv x2), (3, rv x3), (4, .int x4)] → k23 x0 x1 x2 x3 x4 h = some rr → W p l e room_1 s m #[Value.ref b] below meth c H locs cells slots (lw_Z below #[Value.ref b] s) (F0 m 23 ls [])) : ∀ (x0 : Unit) (x1 : Nat) (x2 : Nat) (x3 : Nat) (x4 : Int32) (h : Hp) (H : Heap) (locs : List Loc) (cells slots : Nat) (ls : Array Slot), HP D s.heap h H → LO s.heap locs → lv_has ls 9 [(0, .ref b), (1, rv x1), (2, rv x2), (3, rv x3), (4, .int x4)] → f_L_law_1992 L xs k23 x0 x1 x2 x3 x4 h = some rr → W p l e room_1 s m #[Value.ref b] below meth c H locs cells slots (lw_Z below #[Value.ref b] s) (F0 m 1992 ls []) := by
  obtain ⟨⟨hx, hb, hml, hown, hts⟩, -⟩ := id C
  have hl9 := C.2.1.2.2.1
  intro x0 x1 x2 x3 x4 h H locs cells slots ls hH hL hl hrun
  unfold f_L_law_1992 at hrun
  refine lv_goto (tgt := 3277) (pc := 1992) hx hb dL_law_1992 (by decide) ?_
  exact b_L_law_3277 C hok hS K23 x0 x1 x2 x3 x4 h H locs cells slots ls hH hL (lv_sub hl [0, 1, 2, 3, 4] rfl) hrun

theorem b_L_law_1940 {rr : (Int32 ⊕ Ex) × Hp} {k23 : Unit → Nat → Nat → Nat → Int32 → Hp → Rt Int32} {b L : Nat} {xs : Nat → Int32} {et9 : List (Nat × Nat × Nat × Nat)} (C : CX p l room_1 s m #[Value.ref b] meth c D s.heap cL_law "MassclaimLaw" 9 ret et9 8192 104096) (hok : rr.1 = .inl 1) (hS : va_X b L xs s s.heap ∧ b < s.heap.size) (K23 : ∀ (x0 : Unit) (x1 : Nat) (x2 : Nat) (x3 : Nat) (x4 : Int32) (h : Hp) (H : Heap) (locs : List Loc) (cells slots : Nat) (ls : Array Slot), HP D s.heap h H → LO s.heap locs → lv_has ls 9 [(0, .ref b), (1, rv x1), (2, rv x2), (3, rv x3), (4, .int x4)] → k23 x0 x1 x2 x3 x4 h = some rr → W p l e room_1 s m #[Value.ref b] below meth c H locs cells slots (lw_Z below #[Value.ref b] s) (F0 m 23 ls [])) : ∀ (x0 : Unit) (x1 : Nat) (x2 : Nat) (x3 : Nat) (x4 : Int32) (h : Hp) (H : Heap) (locs : List Loc) (cells slots : Nat) (ls : Array Slot), HP D s.heap h H → LO s.heap locs → lv_has ls 9 [(0, .ref b), (1, rv x1), (2, rv x2), (3, rv x3), (4, .int x4)] → f_L_law_1940 L xs k23 x0 x1 x2 x3 x4 h = some rr → W p l e room_1 s m #[Value.ref b] below meth c H locs cells slots (lw_Z below #[Value.ref b] s) (F0 m 1940 ls []) := by
  obtain ⟨⟨hx, hb, hml, hown, hts⟩, -⟩ := id C
  have hl9 := C.2.1.2.2.1
  intro x0 x1 x2 x3 x4 h H locs cells slots ls hH hL hl hrun
  unfold f_L_law_1940 at hrun
  refine V_aload_n (pc := 1940) hx hb dL_law_1940 rfl (lv_at hl 1 rfl) ?_
  refine lv_aload_n (pc := 1941) hx hb dL_law_1941 rfl (lv_at hl 0 rfl) ?_
  refine lv_iload (pc := 1942) hx hb dL_law_1942 (lv_at hl 4 rfl) ?_
  refine lv_iconst (v := (1 : Int32)) (pc := 1944) hx hb dL_law_1944 (by decide) ?_
  refine lv_iadd (pc := 1945) hx hb dL_law_1945 ?_
  obtain ⟨c316, hrun⟩ := gd_some hrun
  refine V_sld (pc := 1946) C hH hS dL_law_1946 c316 ?_
  refine V_aload_n (pc := 1947) hx hb dL_law_1947 rfl (lv_at hl 3 rfl) ?_
  refine V_bdN (pc := 1948) hL hrun (fun rr1 e1 => Z_runSH (rest := []) C hH (m_X0_raise hl9 e1) wSH_X0_248 rfl ⟨by decide, by decide⟩ rfl (Nat.le_of_ble_eq_true rfl) hl.1 dL_law_1948) (fun v317 h318 H locs cells slots hH hL hrun => ?_)
  refine lv_istore (i := 5) (lv' := [(5, .int v317), (0, .ref b), (1, rv x1), (2, rv x2), (3, rv x3), (4, .int x4)]) (pc := 1951) hx hb dL_law_1951 hl (by decide) rfl (fun ls hl => ?_)
  refine V_aload_n (pc := 1953) hx hb dL_law_1953 rfl (lv_at hl 3 rfl) ?_
  refine lv_aload_n (pc := 1954) hx hb dL_law_1954 rfl (lv_at hl 1 rfl) ?_
  refine lv_iload (pc := 1955) hx hb dL_law_1955 (lv_at hl 5 rfl) ?_
  refine lv_iconst (v := (1 : Int32)) (pc := 1957) hx hb dL_law_1957 (by decide) ?_
  refine lv_iadd (pc := 1958) hx hb dL_law_1958 ?_
  obtain ⟨c319, hrun⟩ := gd_some hrun
  refine V_sld (pc := 1959) C hH hS dL_law_1959 c319 ?_
  obtain ⟨c322, hrun⟩ := gd_some hrun
  refine V_bdN (pc := 1960) hL hrun (fun rr1 e1 => Z_runV (rest := []) C hH (m_X4_raise hl9 e1) wV_X0_250 c322 rfl (by decide) rfl rfl ⟨by decide, by decide⟩ rfl (Nat.le_of_ble_eq_true rfl) hl.1 dL_law_1960) (fun v320 h321 H locs cells slots hH hL hrun => ?_)
  refine lv_lstore (i := 6) (lv' := [(6, .long v320), (5, .int v317), (0, .ref b), (1, rv x1), (2, rv x2), (3, rv x3), (4, .int x4)]) (pc := 1963) hx hb dL_law_1963 hl (by decide) rfl (fun ls hl => ?_)
  refine V_aload_n (pc := 1965) hx hb dL_law_1965 rfl (lv_at hl 4 rfl) ?_
  obtain ⟨c325, hrun⟩ := gd_some hrun
  refine V_bdN (pc := 1966) hL hrun (fun rr1 e1 => Z_runV (rest := []) C hH (m_X4_thrown hl9 e1) wV_X0_170 c325 rfl (by decide) rfl rfl ⟨by decide, by decide⟩ rfl (Nat.le_of_ble_eq_true rfl) hl.1 dL_law_1966) (fun v323 h324 H locs cells slots hH hL hrun => ?_)
  refine lv_iload (pc := 1969) hx hb dL_law_1969 (lv_at hl 1 rfl) ?_
  refine lv_icmp_eq (tgt := 1976) (pc := 1971) hx hb dL_law_1971 (by decide) (fun c_ => ?_) (fun c_ => ?_)
  · have hrun := ite_t hrun c_
    refine lv_iload (pc := 1976) hx hb dL_law_1976 (lv_at hl 1 rfl) ?_
    refine lv_if_ne (tgt := 1992) (pc := 1978) hx hb dL_law_1978 (by decide) (fun c_ => ?_) (fun c_ => ?_)
    · have hrun := ite_f hrun c_
      exact b_L_law_1992 C hok hS K23 x0 x1 x2 x3 x4 h324 H locs cells slots ls hH hL (lv_sub hl [2, 3, 4, 5, 6] rfl) hrun
    · have hrun := ite_t hrun c_
      refine V_aload_n (pc := 1981) hx hb dL_law_1981 rfl (lv_at hl 5 rfl) ?_
      refine lv_iconst (v := (0 : Int32)) (pc := 1982) hx hb dL_law_1982 (by decide) ?_
      obtain ⟨c326, hrun⟩ := gd_some hrun
      refine V_lald (pc := 1983) C hH dL_law_1983 c326 ?_
      refine lv_lload (pc := 1984) hx hb dL_law_1984 (lv_at hl 0 rfl) ?_
      refine V_lcmp_eq (tgt := 1992) (pc := 1986) hx hb dL_law_1986 dL_law_1987 (by decide) (fun c_ => ?_) (fun c_ => ?_)
      · have hrun := ite_t hrun c_
        exact b_L_law_1992 C hok hS K23 x0 x1 x2 x3 x4 h324 H locs cells slots ls hH hL (lv_sub hl [2, 3, 4, 5, 6] rfl) hrun
      · have hrun := ite_f hrun c_
        refine lv_iconst (v := (0 : Int32)) (pc := 1990) hx hb dL_law_1990 (by decide) ?_
        exact V_lawret (pc := 1991) C hH hL hok hrun dL_law_1991
  · have hrun := ite_f hrun c_
    refine lv_iconst (v := (0 : Int32)) (pc := 1974) hx hb dL_law_1974 (by decide) ?_
    exact V_lawret (pc := 1975) C hH hL hok hrun dL_law_1975

theorem b_L_law_2072 {rr : (Int32 ⊕ Ex) × Hp} {k23 : Unit → Nat → Nat → Nat → Int32 → Hp → Rt Int32} {b L : Nat} {xs : Nat → Int32} {et9 : List (Nat × Nat × Nat × Nat)} (C : CX p l room_1 s m #[Value.ref b] meth c D s.heap cL_law "MassclaimLaw" 9 ret et9 8192 104096) (hok : rr.1 = .inl 1) (hS : va_X b L xs s s.heap ∧ b < s.heap.size) (K23 : ∀ (x0 : Unit) (x1 : Nat) (x2 : Nat) (x3 : Nat) (x4 : Int32) (h : Hp) (H : Heap) (locs : List Loc) (cells slots : Nat) (ls : Array Slot), HP D s.heap h H → LO s.heap locs → lv_has ls 9 [(0, .ref b), (1, rv x1), (2, rv x2), (3, rv x3), (4, .int x4)] → k23 x0 x1 x2 x3 x4 h = some rr → W p l e room_1 s m #[Value.ref b] below meth c H locs cells slots (lw_Z below #[Value.ref b] s) (F0 m 23 ls [])) : ∀ (x0 : Unit) (x1 : Nat) (x2 : Nat) (x3 : Nat) (x4 : Int32) (h : Hp) (H : Heap) (locs : List Loc) (cells slots : Nat) (ls : Array Slot), HP D s.heap h H → LO s.heap locs → lv_has ls 9 [(0, .ref b), (1, rv x1), (2, rv x2), (3, rv x3), (4, .int x4)] → f_L_law_2072 L xs k23 x0 x1 x2 x3 x4 h = some rr → W p l e room_1 s m #[Value.ref b] below meth c H locs cells slots (lw_Z below #[Value.ref b] s) (F0 m 2072 ls []) := by
  obtain ⟨⟨hx, hb, hml, hown, hts⟩, -⟩ := id C
  have hl9 := C.2.1.2.2.1
  intro x0 x1 x2 x3 x4 h H locs cells slots ls hH hL hl hrun
  unfold f_L_law_2072 at hrun
  refine lv_goto (tgt := 3277) (pc := 2072) hx hb dL_law_2072 (by decide) ?_
  exact b_L_law_3277 C hok hS K23 x0 x1 x2 x3 x4 h H locs cells slots ls hH hL (lv_sub hl [0, 1, 2, 3, 4] rfl) hrun

theorem b_L_law_1995 {rr : (Int32 ⊕ Ex) × Hp} {k23 : Unit → Nat → Nat → Nat → Int32 → Hp → Rt Int32} {b L : Nat} {xs : Nat → Int32} {et9 : List (Nat × Nat × Nat × Nat)} (C : CX p l room_1 s m #[Value.ref b] meth c D s.heap cL_law "MassclaimLaw" 9 ret et9 8192 104096) (hok : rr.1 = .inl 1) (hS : va_X b L xs s s.heap ∧ b < s.heap.size) (K23 : ∀ (x0 : Unit) (x1 : Nat) (x2 : Nat) (x3 : Nat) (x4 : Int32) (h : Hp) (H : Heap) (locs : List Loc) (cells slots : Nat) (ls : Array Slot), HP D s.heap h H → LO s.heap locs → lv_has ls 9 [(0, .ref b), (1, rv x1), (2, rv x2), (3, rv x3), (4, .int x4)] → k23 x0 x1 x2 x3 x4 h = some rr → W p l e room_1 s m #[Value.ref b] below meth c H locs cells slots (lw_Z below #[Value.ref b] s) (F0 m 23 ls [])) : ∀ (x0 : Unit) (x1 : Nat) (x2 : Nat) (x3 : Nat) (x4 : Int32) (h : Hp) (H : Heap) (locs : List Loc) (cells slots : Nat) (ls : Array Slot), HP D s.heap h H → LO s.heap locs → lv_has ls 9 [(0, .ref b), (1, rv x1), (2, rv x2), (3, rv x3), (4, .int x4)] → f_L_law_1995 L xs k23 x0 x1 x2 x3 x4 h = some rr → W p l e room_1 s m #[Value.ref b] below meth c H locs cells slots (lw_Z below #[Value.ref b] s) (F0 m 1995 ls []) := by
  obtain ⟨⟨hx, hb, hml, hown, hts⟩, -⟩ := id C
  have hl9 := C.2.1.2.2.1
  intro x0 x1 x2 x3 x4 h H locs cells slots ls hH hL hl hrun
  unfold f_L_law_1995 at hrun
  refine V_aload_n (pc := 1995) hx hb dL_law_1995 rfl (lv_at hl 1 rfl) ?_
  refine lv_aload_n (pc := 1996) hx hb dL_law_1996 rfl (lv_at hl 0 rfl) ?_
  refine lv_iload (pc := 1997) hx hb dL_law_1997 (lv_at hl 4 rfl) ?_
  refine lv_iconst (v := (1 : Int32)) (pc := 1999) hx hb dL_law_1999 (by decide) ?_
  refine lv_iadd (pc := 2000) hx hb dL_law_2000 ?_
  obtain ⟨c327, hrun⟩ := gd_some hrun
  refine V_sld (pc := 2001) C hH hS dL_law_2001 c327 ?_
  refine lv_aload_n (pc := 2002) hx hb dL_law_2002 rfl (lv_at hl 0 rfl) ?_
  refine lv_iload (pc := 2003) hx hb dL_law_2003 (lv_at hl 4 rfl) ?_
  refine lv_iconst (v := (2 : Int32)) (pc := 2005) hx hb dL_law_2005 (by decide) ?_
  refine lv_iadd (pc := 2006) hx hb dL_law_2006 ?_
  obtain ⟨c328, hrun⟩ := gd_some hrun
  refine V_sld (pc := 2007) C hH hS dL_law_2007 c328 ?_
  refine lv_aload_n (pc := 2008) hx hb dL_law_2008 rfl (lv_at hl 0 rfl) ?_
  refine lv_iload (pc := 2009) hx hb dL_law_2009 (lv_at hl 4 rfl) ?_
  refine lv_iconst (v := (3 : Int32)) (pc := 2011) hx hb dL_law_2011 (by decide) ?_
  refine lv_iadd (pc := 2012) hx hb dL_law_2012 ?_
  obtain ⟨c329, hrun⟩ := gd_some hrun
  refine V_sld (pc := 2013) C hH hS dL_law_2013 c329 ?_
  refine V_aload_n (pc := 2014) hx hb dL_law_2014 rfl (lv_at hl 3 rfl) ?_
  refine V_bdN (pc := 2015) hL hrun (fun rr1 e1 => Z_runSH (rest := []) C hH (m_X0_grid hl9 e1) wSH_X0_251 rfl ⟨by decide, by decide⟩ rfl (Nat.le_of_ble_eq_true rfl) hl.1 dL_law_2015) (fun v330 h331 H locs cells slots hH hL hrun => ?_)
  refine lv_istore (i := 5) (lv' := [(5, .int v330), (0, .ref b), (1, rv x1), (2, rv x2), (3, rv x3), (4, .int x4)]) (pc := 2018) hx hb dL_law_2018 hl (by decide) rfl (fun ls hl => ?_)
  refine V_aload_n (pc := 2020) hx hb dL_law_2020 rfl (lv_at hl 3 rfl) ?_
  refine lv_aload_n (pc := 2021) hx hb dL_law_2021 rfl (lv_at hl 1 rfl) ?_
  refine lv_iload (pc := 2022) hx hb dL_law_2022 (lv_at hl 5 rfl) ?_
  refine lv_iconst (v := (1 : Int32)) (pc := 2024) hx hb dL_law_2024 (by decide) ?_
  refine lv_iadd (pc := 2025) hx hb dL_law_2025 ?_
  obtain ⟨c332, hrun⟩ := gd_some hrun
  refine V_sld (pc := 2026) C hH hS dL_law_2026 c332 ?_
  refine lv_aload_n (pc := 2027) hx hb dL_law_2027 rfl (lv_at hl 1 rfl) ?_
  refine lv_iload (pc := 2028) hx hb dL_law_2028 (lv_at hl 5 rfl) ?_
  refine lv_iconst (v := (2 : Int32)) (pc := 2030) hx hb dL_law_2030 (by decide) ?_
  refine lv_iadd (pc := 2031) hx hb dL_law_2031 ?_
  obtain ⟨c333, hrun⟩ := gd_some hrun
  refine V_sld (pc := 2032) C hH hS dL_law_2032 c333 ?_
  refine lv_aload_n (pc := 2033) hx hb dL_law_2033 rfl (lv_at hl 1 rfl) ?_
  refine lv_iload (pc := 2034) hx hb dL_law_2034 (lv_at hl 5 rfl) ?_
  refine lv_iconst (v := (3 : Int32)) (pc := 2036) hx hb dL_law_2036 (by decide) ?_
  refine lv_iadd (pc := 2037) hx hb dL_law_2037 ?_
  obtain ⟨c334, hrun⟩ := gd_some hrun
  refine V_sld (pc := 2038) C hH hS dL_law_2038 c334 ?_
  obtain ⟨c337, hrun⟩ := gd_some hrun
  refine V_bdN (pc := 2039) hL hrun (fun rr1 e1 => Z_runV (rest := []) C hH (m_X4_grid hl9 e1) wV_X0_253 c337 rfl (by decide) rfl rfl ⟨by decide, by decide⟩ rfl (Nat.le_of_ble_eq_true rfl) hl.1 dL_law_2039) (fun v335 h336 H locs cells slots hH hL hrun => ?_)
  refine lv_istore (i := 6) (lv' := [(6, .int v335), (5, .int v330), (0, .ref b), (1, rv x1), (2, rv x2), (3, rv x3), (4, .int x4)]) (pc := 2042) hx hb dL_law_2042 hl (by decide) rfl (fun ls hl => ?_)
  refine V_aload_n (pc := 2044) hx hb dL_law_2044 rfl (lv_at hl 4 rfl) ?_
  obtain ⟨c340, hrun⟩ := gd_some hrun
  refine V_bdN (pc := 2045) hL hrun (fun rr1 e1 => Z_runV (rest := []) C hH (m_X4_thrown hl9 e1) wV_X0_170 c340 rfl (by decide) rfl rfl ⟨by decide, by decide⟩ rfl (Nat.le_of_ble_eq_true rfl) hl.1 dL_law_2045) (fun v338 h339 H locs cells slots hH hL hrun => ?_)
  refine lv_iload (pc := 2048) hx hb dL_law_2048 (lv_at hl 1 rfl) ?_
  refine lv_icmp_eq (tgt := 2055) (pc := 2050) hx hb dL_law_2050 (by decide) (fun c_ => ?_) (fun c_ => ?_)
  · have hrun := ite_t hrun c_
    refine lv_iload (pc := 2055) hx hb dL_law_2055 (lv_at hl 1 rfl) ?_
    refine lv_if_ne (tgt := 2072) (pc := 2057) hx hb dL_law_2057 (by decide) (fun c_ => ?_) (fun c_ => ?_)
    · have hrun := ite_f hrun c_
      exact b_L_law_2072 C hok hS K23 x0 x1 x2 x3 x4 h339 H locs cells slots ls hH hL (lv_sub hl [2, 3, 4, 5, 6] rfl) hrun
    · have hrun := ite_t hrun c_
      refine V_aload_n (pc := 2060) hx hb dL_law_2060 rfl (lv_at hl 5 rfl) ?_
      refine lv_iconst (v := (0 : Int32)) (pc := 2061) hx hb dL_law_2061 (by decide) ?_
      obtain ⟨c341, hrun⟩ := gd_some hrun
      refine V_lald (pc := 2062) C hH dL_law_2062 c341 ?_
      refine lv_iload (pc := 2063) hx hb dL_law_2063 (lv_at hl 0 rfl) ?_
      refine lv_i2l (pc := 2065) hx hb dL_law_2065 rfl ?_
      refine V_lcmp_eq (tgt := 2072) (pc := 2066) hx hb dL_law_2066 dL_law_2067 (by decide) (fun c_ => ?_) (fun c_ => ?_)
      · have hrun := ite_t hrun c_
        exact b_L_law_2072 C hok hS K23 x0 x1 x2 x3 x4 h339 H locs cells slots ls hH hL (lv_sub hl [2, 3, 4, 5, 6] rfl) hrun
      · have hrun := ite_f hrun c_
        refine lv_iconst (v := (0 : Int32)) (pc := 2070) hx hb dL_law_2070 (by decide) ?_
        exact V_lawret (pc := 2071) C hH hL hok hrun dL_law_2071
  · have hrun := ite_f hrun c_
    refine lv_iconst (v := (0 : Int32)) (pc := 2053) hx hb dL_law_2053 (by decide) ?_
    exact V_lawret (pc := 2054) C hH hL hok hrun dL_law_2054

theorem b_L_law_2152 {rr : (Int32 ⊕ Ex) × Hp} {k23 : Unit → Nat → Nat → Nat → Int32 → Hp → Rt Int32} {b L : Nat} {xs : Nat → Int32} {et9 : List (Nat × Nat × Nat × Nat)} (C : CX p l room_1 s m #[Value.ref b] meth c D s.heap cL_law "MassclaimLaw" 9 ret et9 8192 104096) (hok : rr.1 = .inl 1) (hS : va_X b L xs s s.heap ∧ b < s.heap.size) (K23 : ∀ (x0 : Unit) (x1 : Nat) (x2 : Nat) (x3 : Nat) (x4 : Int32) (h : Hp) (H : Heap) (locs : List Loc) (cells slots : Nat) (ls : Array Slot), HP D s.heap h H → LO s.heap locs → lv_has ls 9 [(0, .ref b), (1, rv x1), (2, rv x2), (3, rv x3), (4, .int x4)] → k23 x0 x1 x2 x3 x4 h = some rr → W p l e room_1 s m #[Value.ref b] below meth c H locs cells slots (lw_Z below #[Value.ref b] s) (F0 m 23 ls [])) : ∀ (x0 : Unit) (x1 : Nat) (x2 : Nat) (x3 : Nat) (x4 : Int32) (h : Hp) (H : Heap) (locs : List Loc) (cells slots : Nat) (ls : Array Slot), HP D s.heap h H → LO s.heap locs → lv_has ls 9 [(0, .ref b), (1, rv x1), (2, rv x2), (3, rv x3), (4, .int x4)] → f_L_law_2152 L xs k23 x0 x1 x2 x3 x4 h = some rr → W p l e room_1 s m #[Value.ref b] below meth c H locs cells slots (lw_Z below #[Value.ref b] s) (F0 m 2152 ls []) := by
  obtain ⟨⟨hx, hb, hml, hown, hts⟩, -⟩ := id C
  have hl9 := C.2.1.2.2.1
  intro x0 x1 x2 x3 x4 h H locs cells slots ls hH hL hl hrun
  unfold f_L_law_2152 at hrun
  refine lv_goto (tgt := 3277) (pc := 2152) hx hb dL_law_2152 (by decide) ?_
  exact b_L_law_3277 C hok hS K23 x0 x1 x2 x3 x4 h H locs cells slots ls hH hL (lv_sub hl [0, 1, 2, 3, 4] rfl) hrun

theorem b_L_law_2075 {rr : (Int32 ⊕ Ex) × Hp} {k23 : Unit → Nat → Nat → Nat → Int32 → Hp → Rt Int32} {b L : Nat} {xs : Nat → Int32} {et9 : List (Nat × Nat × Nat × Nat)} (C : CX p l room_1 s m #[Value.ref b] meth c D s.heap cL_law "MassclaimLaw" 9 ret et9 8192 104096) (hok : rr.1 = .inl 1) (hS : va_X b L xs s s.heap ∧ b < s.heap.size) (K23 : ∀ (x0 : Unit) (x1 : Nat) (x2 : Nat) (x3 : Nat) (x4 : Int32) (h : Hp) (H : Heap) (locs : List Loc) (cells slots : Nat) (ls : Array Slot), HP D s.heap h H → LO s.heap locs → lv_has ls 9 [(0, .ref b), (1, rv x1), (2, rv x2), (3, rv x3), (4, .int x4)] → k23 x0 x1 x2 x3 x4 h = some rr → W p l e room_1 s m #[Value.ref b] below meth c H locs cells slots (lw_Z below #[Value.ref b] s) (F0 m 23 ls [])) : ∀ (x0 : Unit) (x1 : Nat) (x2 : Nat) (x3 : Nat) (x4 : Int32) (h : Hp) (H : Heap) (locs : List Loc) (cells slots : Nat) (ls : Array Slot), HP D s.heap h H → LO s.heap locs → lv_has ls 9 [(0, .ref b), (1, rv x1), (2, rv x2), (3, rv x3), (4, .int x4)] → f_L_law_2075 L xs k23 x0 x1 x2 x3 x4 h = some rr → W p l e room_1 s m #[Value.ref b] below meth c H locs cells slots (lw_Z below #[Value.ref b] s) (F0 m 2075 ls []) := by
  obtain ⟨⟨hx, hb, hml, hown, hts⟩, -⟩ := id C
  have hl9 := C.2.1.2.2.1
  intro x0 x1 x2 x3 x4 h H locs cells slots ls hH hL hl hrun
  unfold f_L_law_2075 at hrun
  refine V_aload_n (pc := 2075) hx hb dL_law_2075 rfl (lv_at hl 1 rfl) ?_
  refine lv_aload_n (pc := 2076) hx hb dL_law_2076 rfl (lv_at hl 0 rfl) ?_
  refine lv_iload (pc := 2077) hx hb dL_law_2077 (lv_at hl 4 rfl) ?_
  refine lv_iconst (v := (1 : Int32)) (pc := 2079) hx hb dL_law_2079 (by decide) ?_
  refine lv_iadd (pc := 2080) hx hb dL_law_2080 ?_
  obtain ⟨c342, hrun⟩ := gd_some hrun
  refine V_sld (pc := 2081) C hH hS dL_law_2081 c342 ?_
  refine lv_aload_n (pc := 2082) hx hb dL_law_2082 rfl (lv_at hl 0 rfl) ?_
  refine lv_iload (pc := 2083) hx hb dL_law_2083 (lv_at hl 4 rfl) ?_
  refine lv_iconst (v := (2 : Int32)) (pc := 2085) hx hb dL_law_2085 (by decide) ?_
  refine lv_iadd (pc := 2086) hx hb dL_law_2086 ?_
  obtain ⟨c343, hrun⟩ := gd_some hrun
  refine V_sld (pc := 2087) C hH hS dL_law_2087 c343 ?_
  refine lv_aload_n (pc := 2088) hx hb dL_law_2088 rfl (lv_at hl 0 rfl) ?_
  refine lv_iload (pc := 2089) hx hb dL_law_2089 (lv_at hl 4 rfl) ?_
  refine lv_iconst (v := (3 : Int32)) (pc := 2091) hx hb dL_law_2091 (by decide) ?_
  refine lv_iadd (pc := 2092) hx hb dL_law_2092 ?_
  obtain ⟨c344, hrun⟩ := gd_some hrun
  refine V_sld (pc := 2093) C hH hS dL_law_2093 c344 ?_
  refine V_aload_n (pc := 2094) hx hb dL_law_2094 rfl (lv_at hl 3 rfl) ?_
  refine V_bdN (pc := 2095) hL hrun (fun rr1 e1 => Z_runSH (rest := []) C hH (m_X0_settings hl9 e1) wSH_X0_254 rfl ⟨by decide, by decide⟩ rfl (Nat.le_of_ble_eq_true rfl) hl.1 dL_law_2095) (fun v345 h346 H locs cells slots hH hL hrun => ?_)
  refine lv_istore (i := 5) (lv' := [(5, .int v345), (0, .ref b), (1, rv x1), (2, rv x2), (3, rv x3), (4, .int x4)]) (pc := 2098) hx hb dL_law_2098 hl (by decide) rfl (fun ls hl => ?_)
  refine V_aload_n (pc := 2100) hx hb dL_law_2100 rfl (lv_at hl 3 rfl) ?_
  refine lv_aload_n (pc := 2101) hx hb dL_law_2101 rfl (lv_at hl 1 rfl) ?_
  refine lv_iload (pc := 2102) hx hb dL_law_2102 (lv_at hl 5 rfl) ?_
  refine lv_iconst (v := (1 : Int32)) (pc := 2104) hx hb dL_law_2104 (by decide) ?_
  refine lv_iadd (pc := 2105) hx hb dL_law_2105 ?_
  obtain ⟨c347, hrun⟩ := gd_some hrun
  refine V_sld (pc := 2106) C hH hS dL_law_2106 c347 ?_
  refine lv_aload_n (pc := 2107) hx hb dL_law_2107 rfl (lv_at hl 1 rfl) ?_
  refine lv_iload (pc := 2108) hx hb dL_law_2108 (lv_at hl 5 rfl) ?_
  refine lv_iconst (v := (2 : Int32)) (pc := 2110) hx hb dL_law_2110 (by decide) ?_
  refine lv_iadd (pc := 2111) hx hb dL_law_2111 ?_
  obtain ⟨c348, hrun⟩ := gd_some hrun
  refine V_sld (pc := 2112) C hH hS dL_law_2112 c348 ?_
  refine lv_aload_n (pc := 2113) hx hb dL_law_2113 rfl (lv_at hl 1 rfl) ?_
  refine lv_iload (pc := 2114) hx hb dL_law_2114 (lv_at hl 5 rfl) ?_
  refine lv_iconst (v := (3 : Int32)) (pc := 2116) hx hb dL_law_2116 (by decide) ?_
  refine lv_iadd (pc := 2117) hx hb dL_law_2117 ?_
  obtain ⟨c349, hrun⟩ := gd_some hrun
  refine V_sld (pc := 2118) C hH hS dL_law_2118 c349 ?_
  obtain ⟨c352, hrun⟩ := gd_some hrun
  refine V_bdN (pc := 2119) hL hrun (fun rr1 e1 => Z_runV (rest := []) C hH (m_X4_settings hl9 e1) wV_X0_256 c352 rfl (by decide) rfl rfl ⟨by decide, by decide⟩ rfl (Nat.le_of_ble_eq_true rfl) hl.1 dL_law_2119) (fun v350 h351 H locs cells slots hH hL hrun => ?_)
  refine lv_istore (i := 6) (lv' := [(6, .int v350), (5, .int v345), (0, .ref b), (1, rv x1), (2, rv x2), (3, rv x3), (4, .int x4)]) (pc := 2122) hx hb dL_law_2122 hl (by decide) rfl (fun ls hl => ?_)
  refine V_aload_n (pc := 2124) hx hb dL_law_2124 rfl (lv_at hl 4 rfl) ?_
  obtain ⟨c355, hrun⟩ := gd_some hrun
  refine V_bdN (pc := 2125) hL hrun (fun rr1 e1 => Z_runV (rest := []) C hH (m_X4_thrown hl9 e1) wV_X0_170 c355 rfl (by decide) rfl rfl ⟨by decide, by decide⟩ rfl (Nat.le_of_ble_eq_true rfl) hl.1 dL_law_2125) (fun v353 h354 H locs cells slots hH hL hrun => ?_)
  refine lv_iload (pc := 2128) hx hb dL_law_2128 (lv_at hl 1 rfl) ?_
  refine lv_icmp_eq (tgt := 2135) (pc := 2130) hx hb dL_law_2130 (by decide) (fun c_ => ?_) (fun c_ => ?_)
  · have hrun := ite_t hrun c_
    refine lv_iload (pc := 2135) hx hb dL_law_2135 (lv_at hl 1 rfl) ?_
    refine lv_if_ne (tgt := 2152) (pc := 2137) hx hb dL_law_2137 (by decide) (fun c_ => ?_) (fun c_ => ?_)
    · have hrun := ite_f hrun c_
      exact b_L_law_2152 C hok hS K23 x0 x1 x2 x3 x4 h354 H locs cells slots ls hH hL (lv_sub hl [2, 3, 4, 5, 6] rfl) hrun
    · have hrun := ite_t hrun c_
      refine V_aload_n (pc := 2140) hx hb dL_law_2140 rfl (lv_at hl 5 rfl) ?_
      refine lv_iconst (v := (0 : Int32)) (pc := 2141) hx hb dL_law_2141 (by decide) ?_
      obtain ⟨c356, hrun⟩ := gd_some hrun
      refine V_lald (pc := 2142) C hH dL_law_2142 c356 ?_
      refine lv_iload (pc := 2143) hx hb dL_law_2143 (lv_at hl 0 rfl) ?_
      refine lv_i2l (pc := 2145) hx hb dL_law_2145 rfl ?_
      refine V_lcmp_eq (tgt := 2152) (pc := 2146) hx hb dL_law_2146 dL_law_2147 (by decide) (fun c_ => ?_) (fun c_ => ?_)
      · have hrun := ite_t hrun c_
        exact b_L_law_2152 C hok hS K23 x0 x1 x2 x3 x4 h354 H locs cells slots ls hH hL (lv_sub hl [2, 3, 4, 5, 6] rfl) hrun
      · have hrun := ite_f hrun c_
        refine lv_iconst (v := (0 : Int32)) (pc := 2150) hx hb dL_law_2150 (by decide) ?_
        exact V_lawret (pc := 2151) C hH hL hok hrun dL_law_2151
  · have hrun := ite_f hrun c_
    refine lv_iconst (v := (0 : Int32)) (pc := 2133) hx hb dL_law_2133 (by decide) ?_
    exact V_lawret (pc := 2134) C hH hL hok hrun dL_law_2134

theorem b_L_law_2244 {rr : (Int32 ⊕ Ex) × Hp} {k23 : Unit → Nat → Nat → Nat → Int32 → Hp → Rt Int32} {b L : Nat} {xs : Nat → Int32} {et9 : List (Nat × Nat × Nat × Nat)} (C : CX p l room_1 s m #[Value.ref b] meth c D s.heap cL_law "MassclaimLaw" 9 ret et9 8192 104096) (hok : rr.1 = .inl 1) (hS : va_X b L xs s s.heap ∧ b < s.heap.size) (K23 : ∀ (x0 : Unit) (x1 : Nat) (x2 : Nat) (x3 : Nat) (x4 : Int32) (h : Hp) (H : Heap) (locs : List Loc) (cells slots : Nat) (ls : Array Slot), HP D s.heap h H → LO s.heap locs → lv_has ls 9 [(0, .ref b), (1, rv x1), (2, rv x2), (3, rv x3), (4, .int x4)] → k23 x0 x1 x2 x3 x4 h = some rr → W p l e room_1 s m #[Value.ref b] below meth c H locs cells slots (lw_Z below #[Value.ref b] s) (F0 m 23 ls [])) : ∀ (x0 : Unit) (x1 : Nat) (x2 : Nat) (x3 : Nat) (x4 : Int32) (h : Hp) (H : Heap) (locs : List Loc) (cells slots : Nat) (ls : Array Slot), HP D s.heap h H → LO s.heap locs → lv_has ls 9 [(0, .ref b), (1, rv x1), (2, rv x2), (3, rv x3), (4, .int x4)] → f_L_law_2244 L xs k23 x0 x1 x2 x3 x4 h = some rr → W p l e room_1 s m #[Value.ref b] below meth c H locs cells slots (lw_Z below #[Value.ref b] s) (F0 m 2244 ls []) := by
  obtain ⟨⟨hx, hb, hml, hown, hts⟩, -⟩ := id C
  have hl9 := C.2.1.2.2.1
  intro x0 x1 x2 x3 x4 h H locs cells slots ls hH hL hl hrun
  unfold f_L_law_2244 at hrun
  refine lv_goto (tgt := 3277) (pc := 2244) hx hb dL_law_2244 (by decide) ?_
  exact b_L_law_3277 C hok hS K23 x0 x1 x2 x3 x4 h H locs cells slots ls hH hL (lv_sub hl [0, 1, 2, 3, 4] rfl) hrun

theorem b_L_law_2155 {rr : (Int32 ⊕ Ex) × Hp} {k23 : Unit → Nat → Nat → Nat → Int32 → Hp → Rt Int32} {b L : Nat} {xs : Nat → Int32} {et9 : List (Nat × Nat × Nat × Nat)} (C : CX p l room_1 s m #[Value.ref b] meth c D s.heap cL_law "MassclaimLaw" 9 ret et9 8192 104096) (hok : rr.1 = .inl 1) (hS : va_X b L xs s s.heap ∧ b < s.heap.size) (K23 : ∀ (x0 : Unit) (x1 : Nat) (x2 : Nat) (x3 : Nat) (x4 : Int32) (h : Hp) (H : Heap) (locs : List Loc) (cells slots : Nat) (ls : Array Slot), HP D s.heap h H → LO s.heap locs → lv_has ls 9 [(0, .ref b), (1, rv x1), (2, rv x2), (3, rv x3), (4, .int x4)] → k23 x0 x1 x2 x3 x4 h = some rr → W p l e room_1 s m #[Value.ref b] below meth c H locs cells slots (lw_Z below #[Value.ref b] s) (F0 m 23 ls [])) : ∀ (x0 : Unit) (x1 : Nat) (x2 : Nat) (x3 : Nat) (x4 : Int32) (h : Hp) (H : Heap) (locs : List Loc) (cells slots : Nat) (ls : Array Slot), HP D s.heap h H → LO s.heap locs → lv_has ls 9 [(0, .ref b), (1, rv x1), (2, rv x2), (3, rv x3), (4, .int x4)] → f_L_law_2155 L xs k23 x0 x1 x2 x3 x4 h = some rr → W p l e room_1 s m #[Value.ref b] below meth c H locs cells slots (lw_Z below #[Value.ref b] s) (F0 m 2155 ls []) := by
  obtain ⟨⟨hx, hb, hml, hown, hts⟩, -⟩ := id C
  have hl9 := C.2.1.2.2.1
  intro x0 x1 x2 x3 x4 h H locs cells slots ls hH hL hl hrun
  unfold f_L_law_2155 at hrun
  refine V_aload_n (pc := 2155) hx hb dL_law_2155 rfl (lv_at hl 1 rfl) ?_
  refine lv_aload_n (pc := 2156) hx hb dL_law_2156 rfl (lv_at hl 0 rfl) ?_
  refine lv_iload (pc := 2157) hx hb dL_law_2157 (lv_at hl 4 rfl) ?_
  refine lv_iconst (v := (1 : Int32)) (pc := 2159) hx hb dL_law_2159 (by decide) ?_
  refine lv_iadd (pc := 2160) hx hb dL_law_2160 ?_
  obtain ⟨c357, hrun⟩ := gd_some hrun
  refine V_sld (pc := 2161) C hH hS dL_law_2161 c357 ?_
  refine lv_aload_n (pc := 2162) hx hb dL_law_2162 rfl (lv_at hl 0 rfl) ?_
  refine lv_iload (pc := 2163) hx hb dL_law_2163 (lv_at hl 4 rfl) ?_
  refine lv_iconst (v := (2 : Int32)) (pc := 2165) hx hb dL_law_2165 (by decide) ?_
  refine lv_iadd (pc := 2166) hx hb dL_law_2166 ?_
  obtain ⟨c358, hrun⟩ := gd_some hrun
  refine V_sld (pc := 2167) C hH hS dL_law_2167 c358 ?_
  refine lv_aload_n (pc := 2168) hx hb dL_law_2168 rfl (lv_at hl 0 rfl) ?_
  refine lv_iload (pc := 2169) hx hb dL_law_2169 (lv_at hl 4 rfl) ?_
  refine lv_iconst (v := (3 : Int32)) (pc := 2171) hx hb dL_law_2171 (by decide) ?_
  refine lv_iadd (pc := 2172) hx hb dL_law_2172 ?_
  obtain ⟨c359, hrun⟩ := gd_some hrun
  refine V_sld (pc := 2173) C hH hS dL_law_2173 c359 ?_
  refine lv_aload_n (pc := 2174) hx hb dL_law_2174 rfl (lv_at hl 0 rfl) ?_
  refine lv_iload (pc := 2175) hx hb dL_law_2175 (lv_at hl 4 rfl) ?_
  refine lv_iconst (v := (4 : Int32)) (pc := 2177) hx hb dL_law_2177 (by decide) ?_
  refine lv_iadd (pc := 2178) hx hb dL_law_2178 ?_
  obtain ⟨c360, hrun⟩ := gd_some hrun
  refine V_sld (pc := 2179) C hH hS dL_law_2179 c360 ?_
  refine V_aload_n (pc := 2180) hx hb dL_law_2180 rfl (lv_at hl 3 rfl) ?_
  refine V_bdN (pc := 2181) hL hrun (fun rr1 e1 => Z_runSH (rest := []) C hH (m_X0_claim hl9 e1) wSH_X0_257 rfl ⟨by decide, by decide⟩ rfl (Nat.le_of_ble_eq_true rfl) hl.1 dL_law_2181) (fun v361 h362 H locs cells slots hH hL hrun => ?_)
  refine lv_istore (i := 5) (lv' := [(5, .int v361), (0, .ref b), (1, rv x1), (2, rv x2), (3, rv x3), (4, .int x4)]) (pc := 2184) hx hb dL_law_2184 hl (by decide) rfl (fun ls hl => ?_)
  refine V_aload_n (pc := 2186) hx hb dL_law_2186 rfl (lv_at hl 3 rfl) ?_
  refine lv_aload_n (pc := 2187) hx hb dL_law_2187 rfl (lv_at hl 1 rfl) ?_
  refine lv_iload (pc := 2188) hx hb dL_law_2188 (lv_at hl 5 rfl) ?_
  refine lv_iconst (v := (1 : Int32)) (pc := 2190) hx hb dL_law_2190 (by decide) ?_
  refine lv_iadd (pc := 2191) hx hb dL_law_2191 ?_
  obtain ⟨c363, hrun⟩ := gd_some hrun
  refine V_sld (pc := 2192) C hH hS dL_law_2192 c363 ?_
  refine lv_aload_n (pc := 2193) hx hb dL_law_2193 rfl (lv_at hl 1 rfl) ?_
  refine lv_iload (pc := 2194) hx hb dL_law_2194 (lv_at hl 5 rfl) ?_
  refine lv_iconst (v := (2 : Int32)) (pc := 2196) hx hb dL_law_2196 (by decide) ?_
  refine lv_iadd (pc := 2197) hx hb dL_law_2197 ?_
  obtain ⟨c364, hrun⟩ := gd_some hrun
  refine V_sld (pc := 2198) C hH hS dL_law_2198 c364 ?_
  refine lv_aload_n (pc := 2199) hx hb dL_law_2199 rfl (lv_at hl 1 rfl) ?_
  refine lv_iload (pc := 2200) hx hb dL_law_2200 (lv_at hl 5 rfl) ?_
  refine lv_iconst (v := (3 : Int32)) (pc := 2202) hx hb dL_law_2202 (by decide) ?_
  refine lv_iadd (pc := 2203) hx hb dL_law_2203 ?_
  obtain ⟨c365, hrun⟩ := gd_some hrun
  refine V_sld (pc := 2204) C hH hS dL_law_2204 c365 ?_
  refine lv_aload_n (pc := 2205) hx hb dL_law_2205 rfl (lv_at hl 1 rfl) ?_
  refine lv_iload (pc := 2206) hx hb dL_law_2206 (lv_at hl 5 rfl) ?_
  refine lv_iconst (v := (4 : Int32)) (pc := 2208) hx hb dL_law_2208 (by decide) ?_
  refine lv_iadd (pc := 2209) hx hb dL_law_2209 ?_
  obtain ⟨c366, hrun⟩ := gd_some hrun
  refine V_sld (pc := 2210) C hH hS dL_law_2210 c366 ?_
  obtain ⟨c369, hrun⟩ := gd_some hrun
  refine V_bdN (pc := 2211) hL hrun (fun rr1 e1 => Z_runV (rest := []) C hH (m_X4_claim hl9 e1) wV_X0_259 c369 rfl (by decide) rfl rfl ⟨by decide, by decide⟩ rfl (Nat.le_of_ble_eq_true rfl) hl.1 dL_law_2211) (fun v367 h368 H locs cells slots hH hL hrun => ?_)
  refine lv_istore (i := 6) (lv' := [(6, .int v367), (5, .int v361), (0, .ref b), (1, rv x1), (2, rv x2), (3, rv x3), (4, .int x4)]) (pc := 2214) hx hb dL_law_2214 hl (by decide) rfl (fun ls hl => ?_)
  refine V_aload_n (pc := 2216) hx hb dL_law_2216 rfl (lv_at hl 4 rfl) ?_
  obtain ⟨c372, hrun⟩ := gd_some hrun
  refine V_bdN (pc := 2217) hL hrun (fun rr1 e1 => Z_runV (rest := []) C hH (m_X4_thrown hl9 e1) wV_X0_170 c372 rfl (by decide) rfl rfl ⟨by decide, by decide⟩ rfl (Nat.le_of_ble_eq_true rfl) hl.1 dL_law_2217) (fun v370 h371 H locs cells slots hH hL hrun => ?_)
  refine lv_iload (pc := 2220) hx hb dL_law_2220 (lv_at hl 1 rfl) ?_
  refine lv_icmp_eq (tgt := 2227) (pc := 2222) hx hb dL_law_2222 (by decide) (fun c_ => ?_) (fun c_ => ?_)
  · have hrun := ite_t hrun c_
    refine lv_iload (pc := 2227) hx hb dL_law_2227 (lv_at hl 1 rfl) ?_
    refine lv_if_ne (tgt := 2244) (pc := 2229) hx hb dL_law_2229 (by decide) (fun c_ => ?_) (fun c_ => ?_)
    · have hrun := ite_f hrun c_
      exact b_L_law_2244 C hok hS K23 x0 x1 x2 x3 x4 h371 H locs cells slots ls hH hL (lv_sub hl [2, 3, 4, 5, 6] rfl) hrun
    · have hrun := ite_t hrun c_
      refine V_aload_n (pc := 2232) hx hb dL_law_2232 rfl (lv_at hl 5 rfl) ?_
      refine lv_iconst (v := (0 : Int32)) (pc := 2233) hx hb dL_law_2233 (by decide) ?_
      obtain ⟨c373, hrun⟩ := gd_some hrun
      refine V_lald (pc := 2234) C hH dL_law_2234 c373 ?_
      refine lv_iload (pc := 2235) hx hb dL_law_2235 (lv_at hl 0 rfl) ?_
      refine lv_i2l (pc := 2237) hx hb dL_law_2237 rfl ?_
      refine V_lcmp_eq (tgt := 2244) (pc := 2238) hx hb dL_law_2238 dL_law_2239 (by decide) (fun c_ => ?_) (fun c_ => ?_)
      · have hrun := ite_t hrun c_
        exact b_L_law_2244 C hok hS K23 x0 x1 x2 x3 x4 h371 H locs cells slots ls hH hL (lv_sub hl [2, 3, 4, 5, 6] rfl) hrun
      · have hrun := ite_f hrun c_
        refine lv_iconst (v := (0 : Int32)) (pc := 2242) hx hb dL_law_2242 (by decide) ?_
        exact V_lawret (pc := 2243) C hH hL hok hrun dL_law_2243
  · have hrun := ite_f hrun c_
    refine lv_iconst (v := (0 : Int32)) (pc := 2225) hx hb dL_law_2225 (by decide) ?_
    exact V_lawret (pc := 2226) C hH hL hok hrun dL_law_2226

theorem b_L_law_2312 {rr : (Int32 ⊕ Ex) × Hp} {k23 : Unit → Nat → Nat → Nat → Int32 → Hp → Rt Int32} {b L : Nat} {xs : Nat → Int32} {et9 : List (Nat × Nat × Nat × Nat)} (C : CX p l room_1 s m #[Value.ref b] meth c D s.heap cL_law "MassclaimLaw" 9 ret et9 8192 104096) (hok : rr.1 = .inl 1) (hS : va_X b L xs s s.heap ∧ b < s.heap.size) (K23 : ∀ (x0 : Unit) (x1 : Nat) (x2 : Nat) (x3 : Nat) (x4 : Int32) (h : Hp) (H : Heap) (locs : List Loc) (cells slots : Nat) (ls : Array Slot), HP D s.heap h H → LO s.heap locs → lv_has ls 9 [(0, .ref b), (1, rv x1), (2, rv x2), (3, rv x3), (4, .int x4)] → k23 x0 x1 x2 x3 x4 h = some rr → W p l e room_1 s m #[Value.ref b] below meth c H locs cells slots (lw_Z below #[Value.ref b] s) (F0 m 23 ls [])) : ∀ (x0 : Unit) (x1 : Nat) (x2 : Nat) (x3 : Nat) (x4 : Int32) (h : Hp) (H : Heap) (locs : List Loc) (cells slots : Nat) (ls : Array Slot), HP D s.heap h H → LO s.heap locs → lv_has ls 9 [(0, .ref b), (1, rv x1), (2, rv x2), (3, rv x3), (4, .int x4)] → f_L_law_2312 L xs k23 x0 x1 x2 x3 x4 h = some rr → W p l e room_1 s m #[Value.ref b] below meth c H locs cells slots (lw_Z below #[Value.ref b] s) (F0 m 2312 ls []) := by
  obtain ⟨⟨hx, hb, hml, hown, hts⟩, -⟩ := id C
  have hl9 := C.2.1.2.2.1
  intro x0 x1 x2 x3 x4 h H locs cells slots ls hH hL hl hrun
  unfold f_L_law_2312 at hrun
  refine lv_goto (tgt := 3277) (pc := 2312) hx hb dL_law_2312 (by decide) ?_
  exact b_L_law_3277 C hok hS K23 x0 x1 x2 x3 x4 h H locs cells slots ls hH hL (lv_sub hl [0, 1, 2, 3, 4] rfl) hrun

theorem b_L_law_2247 {rr : (Int32 ⊕ Ex) × Hp} {k23 : Unit → Nat → Nat → Nat → Int32 → Hp → Rt Int32} {b L : Nat} {xs : Nat → Int32} {et9 : List (Nat × Nat × Nat × Nat)} (C : CX p l room_1 s m #[Value.ref b] meth c D s.heap cL_law "MassclaimLaw" 9 ret et9 8192 104096) (hok : rr.1 = .inl 1) (hS : va_X b L xs s s.heap ∧ b < s.heap.size) (K23 : ∀ (x0 : Unit) (x1 : Nat) (x2 : Nat) (x3 : Nat) (x4 : Int32) (h : Hp) (H : Heap) (locs : List Loc) (cells slots : Nat) (ls : Array Slot), HP D s.heap h H → LO s.heap locs → lv_has ls 9 [(0, .ref b), (1, rv x1), (2, rv x2), (3, rv x3), (4, .int x4)] → k23 x0 x1 x2 x3 x4 h = some rr → W p l e room_1 s m #[Value.ref b] below meth c H locs cells slots (lw_Z below #[Value.ref b] s) (F0 m 23 ls [])) : ∀ (x0 : Unit) (x1 : Nat) (x2 : Nat) (x3 : Nat) (x4 : Int32) (h : Hp) (H : Heap) (locs : List Loc) (cells slots : Nat) (ls : Array Slot), HP D s.heap h H → LO s.heap locs → lv_has ls 9 [(0, .ref b), (1, rv x1), (2, rv x2), (3, rv x3), (4, .int x4)] → f_L_law_2247 L xs k23 x0 x1 x2 x3 x4 h = some rr → W p l e room_1 s m #[Value.ref b] below meth c H locs cells slots (lw_Z below #[Value.ref b] s) (F0 m 2247 ls []) := by
  obtain ⟨⟨hx, hb, hml, hown, hts⟩, -⟩ := id C
  have hl9 := C.2.1.2.2.1
  intro x0 x1 x2 x3 x4 h H locs cells slots ls hH hL hl hrun
  unfold f_L_law_2247 at hrun
  refine V_aload_n (pc := 2247) hx hb dL_law_2247 rfl (lv_at hl 1 rfl) ?_
  refine lv_aload_n (pc := 2248) hx hb dL_law_2248 rfl (lv_at hl 0 rfl) ?_
  refine lv_iload (pc := 2249) hx hb dL_law_2249 (lv_at hl 4 rfl) ?_
  refine lv_iconst (v := (1 : Int32)) (pc := 2251) hx hb dL_law_2251 (by decide) ?_
  refine lv_iadd (pc := 2252) hx hb dL_law_2252 ?_
  obtain ⟨c374, hrun⟩ := gd_some hrun
  refine V_sld (pc := 2253) C hH hS dL_law_2253 c374 ?_
  refine lv_aload_n (pc := 2254) hx hb dL_law_2254 rfl (lv_at hl 0 rfl) ?_
  refine lv_iload (pc := 2255) hx hb dL_law_2255 (lv_at hl 4 rfl) ?_
  refine lv_iconst (v := (2 : Int32)) (pc := 2257) hx hb dL_law_2257 (by decide) ?_
  refine lv_iadd (pc := 2258) hx hb dL_law_2258 ?_
  obtain ⟨c375, hrun⟩ := gd_some hrun
  refine V_sld (pc := 2259) C hH hS dL_law_2259 c375 ?_
  refine V_aload_n (pc := 2260) hx hb dL_law_2260 rfl (lv_at hl 3 rfl) ?_
  refine V_bdN (pc := 2261) hL hrun (fun rr1 e1 => Z_runSH (rest := []) C hH (m_X0_claimAt hl9 e1) wSH_X0_260 rfl ⟨by decide, by decide⟩ rfl (Nat.le_of_ble_eq_true rfl) hl.1 dL_law_2261) (fun v376 h377 H locs cells slots hH hL hrun => ?_)
  refine lv_istore (i := 5) (lv' := [(5, .int v376), (0, .ref b), (1, rv x1), (2, rv x2), (3, rv x3), (4, .int x4)]) (pc := 2264) hx hb dL_law_2264 hl (by decide) rfl (fun ls hl => ?_)
  refine V_aload_n (pc := 2266) hx hb dL_law_2266 rfl (lv_at hl 3 rfl) ?_
  refine lv_aload_n (pc := 2267) hx hb dL_law_2267 rfl (lv_at hl 1 rfl) ?_
  refine lv_iload (pc := 2268) hx hb dL_law_2268 (lv_at hl 5 rfl) ?_
  refine lv_iconst (v := (1 : Int32)) (pc := 2270) hx hb dL_law_2270 (by decide) ?_
  refine lv_iadd (pc := 2271) hx hb dL_law_2271 ?_
  obtain ⟨c378, hrun⟩ := gd_some hrun
  refine V_sld (pc := 2272) C hH hS dL_law_2272 c378 ?_
  refine lv_aload_n (pc := 2273) hx hb dL_law_2273 rfl (lv_at hl 1 rfl) ?_
  refine lv_iload (pc := 2274) hx hb dL_law_2274 (lv_at hl 5 rfl) ?_
  refine lv_iconst (v := (2 : Int32)) (pc := 2276) hx hb dL_law_2276 (by decide) ?_
  refine lv_iadd (pc := 2277) hx hb dL_law_2277 ?_
  obtain ⟨c379, hrun⟩ := gd_some hrun
  refine V_sld (pc := 2278) C hH hS dL_law_2278 c379 ?_
  obtain ⟨c382, hrun⟩ := gd_some hrun
  refine V_bdN (pc := 2279) hL hrun (fun rr1 e1 => Z_runV (rest := []) C hH (m_X4_claimAt hl9 e1) wV_X0_262 c382 rfl (by decide) rfl rfl ⟨by decide, by decide⟩ rfl (Nat.le_of_ble_eq_true rfl) hl.1 dL_law_2279) (fun v380 h381 H locs cells slots hH hL hrun => ?_)
  refine lv_istore (i := 6) (lv' := [(6, .int v380), (5, .int v376), (0, .ref b), (1, rv x1), (2, rv x2), (3, rv x3), (4, .int x4)]) (pc := 2282) hx hb dL_law_2282 hl (by decide) rfl (fun ls hl => ?_)
  refine V_aload_n (pc := 2284) hx hb dL_law_2284 rfl (lv_at hl 4 rfl) ?_
  obtain ⟨c385, hrun⟩ := gd_some hrun
  refine V_bdN (pc := 2285) hL hrun (fun rr1 e1 => Z_runV (rest := []) C hH (m_X4_thrown hl9 e1) wV_X0_170 c385 rfl (by decide) rfl rfl ⟨by decide, by decide⟩ rfl (Nat.le_of_ble_eq_true rfl) hl.1 dL_law_2285) (fun v383 h384 H locs cells slots hH hL hrun => ?_)
  refine lv_iload (pc := 2288) hx hb dL_law_2288 (lv_at hl 1 rfl) ?_
  refine lv_icmp_eq (tgt := 2295) (pc := 2290) hx hb dL_law_2290 (by decide) (fun c_ => ?_) (fun c_ => ?_)
  · have hrun := ite_t hrun c_
    refine lv_iload (pc := 2295) hx hb dL_law_2295 (lv_at hl 1 rfl) ?_
    refine lv_if_ne (tgt := 2312) (pc := 2297) hx hb dL_law_2297 (by decide) (fun c_ => ?_) (fun c_ => ?_)
    · have hrun := ite_f hrun c_
      exact b_L_law_2312 C hok hS K23 x0 x1 x2 x3 x4 h384 H locs cells slots ls hH hL (lv_sub hl [2, 3, 4, 5, 6] rfl) hrun
    · have hrun := ite_t hrun c_
      refine V_aload_n (pc := 2300) hx hb dL_law_2300 rfl (lv_at hl 5 rfl) ?_
      refine lv_iconst (v := (0 : Int32)) (pc := 2301) hx hb dL_law_2301 (by decide) ?_
      obtain ⟨c386, hrun⟩ := gd_some hrun
      refine V_lald (pc := 2302) C hH dL_law_2302 c386 ?_
      refine lv_iload (pc := 2303) hx hb dL_law_2303 (lv_at hl 0 rfl) ?_
      refine lv_i2l (pc := 2305) hx hb dL_law_2305 rfl ?_
      refine V_lcmp_eq (tgt := 2312) (pc := 2306) hx hb dL_law_2306 dL_law_2307 (by decide) (fun c_ => ?_) (fun c_ => ?_)
      · have hrun := ite_t hrun c_
        exact b_L_law_2312 C hok hS K23 x0 x1 x2 x3 x4 h384 H locs cells slots ls hH hL (lv_sub hl [2, 3, 4, 5, 6] rfl) hrun
      · have hrun := ite_f hrun c_
        refine lv_iconst (v := (0 : Int32)) (pc := 2310) hx hb dL_law_2310 (by decide) ?_
        exact V_lawret (pc := 2311) C hH hL hok hrun dL_law_2311
  · have hrun := ite_f hrun c_
    refine lv_iconst (v := (0 : Int32)) (pc := 2293) hx hb dL_law_2293 (by decide) ?_
    exact V_lawret (pc := 2294) C hH hL hok hrun dL_law_2294

theorem b_L_law_2380 {rr : (Int32 ⊕ Ex) × Hp} {k23 : Unit → Nat → Nat → Nat → Int32 → Hp → Rt Int32} {b L : Nat} {xs : Nat → Int32} {et9 : List (Nat × Nat × Nat × Nat)} (C : CX p l room_1 s m #[Value.ref b] meth c D s.heap cL_law "MassclaimLaw" 9 ret et9 8192 104096) (hok : rr.1 = .inl 1) (hS : va_X b L xs s s.heap ∧ b < s.heap.size) (K23 : ∀ (x0 : Unit) (x1 : Nat) (x2 : Nat) (x3 : Nat) (x4 : Int32) (h : Hp) (H : Heap) (locs : List Loc) (cells slots : Nat) (ls : Array Slot), HP D s.heap h H → LO s.heap locs → lv_has ls 9 [(0, .ref b), (1, rv x1), (2, rv x2), (3, rv x3), (4, .int x4)] → k23 x0 x1 x2 x3 x4 h = some rr → W p l e room_1 s m #[Value.ref b] below meth c H locs cells slots (lw_Z below #[Value.ref b] s) (F0 m 23 ls [])) : ∀ (x0 : Unit) (x1 : Nat) (x2 : Nat) (x3 : Nat) (x4 : Int32) (h : Hp) (H : Heap) (locs : List Loc) (cells slots : Nat) (ls : Array Slot), HP D s.heap h H → LO s.heap locs → lv_has ls 9 [(0, .ref b), (1, rv x1), (2, rv x2), (3, rv x3), (4, .int x4)] → f_L_law_2380 L xs k23 x0 x1 x2 x3 x4 h = some rr → W p l e room_1 s m #[Value.ref b] below meth c H locs cells slots (lw_Z below #[Value.ref b] s) (F0 m 2380 ls []) := by
  obtain ⟨⟨hx, hb, hml, hown, hts⟩, -⟩ := id C
  have hl9 := C.2.1.2.2.1
  intro x0 x1 x2 x3 x4 h H locs cells slots ls hH hL hl hrun
  unfold f_L_law_2380 at hrun
  refine lv_goto (tgt := 3277) (pc := 2380) hx hb dL_law_2380 (by decide) ?_
  exact b_L_law_3277 C hok hS K23 x0 x1 x2 x3 x4 h H locs cells slots ls hH hL (lv_sub hl [0, 1, 2, 3, 4] rfl) hrun

theorem b_L_law_2315 {rr : (Int32 ⊕ Ex) × Hp} {k23 : Unit → Nat → Nat → Nat → Int32 → Hp → Rt Int32} {b L : Nat} {xs : Nat → Int32} {et9 : List (Nat × Nat × Nat × Nat)} (C : CX p l room_1 s m #[Value.ref b] meth c D s.heap cL_law "MassclaimLaw" 9 ret et9 8192 104096) (hok : rr.1 = .inl 1) (hS : va_X b L xs s s.heap ∧ b < s.heap.size) (K23 : ∀ (x0 : Unit) (x1 : Nat) (x2 : Nat) (x3 : Nat) (x4 : Int32) (h : Hp) (H : Heap) (locs : List Loc) (cells slots : Nat) (ls : Array Slot), HP D s.heap h H → LO s.heap locs → lv_has ls 9 [(0, .ref b), (1, rv x1), (2, rv x2), (3, rv x3), (4, .int x4)] → k23 x0 x1 x2 x3 x4 h = some rr → W p l e room_1 s m #[Value.ref b] below meth c H locs cells slots (lw_Z below #[Value.ref b] s) (F0 m 23 ls [])) : ∀ (x0 : Unit) (x1 : Nat) (x2 : Nat) (x3 : Nat) (x4 : Int32) (h : Hp) (H : Heap) (locs : List Loc) (cells slots : Nat) (ls : Array Slot), HP D s.heap h H → LO s.heap locs → lv_has ls 9 [(0, .ref b), (1, rv x1), (2, rv x2), (3, rv x3), (4, .int x4)] → f_L_law_2315 L xs k23 x0 x1 x2 x3 x4 h = some rr → W p l e room_1 s m #[Value.ref b] below meth c H locs cells slots (lw_Z below #[Value.ref b] s) (F0 m 2315 ls []) := by
  obtain ⟨⟨hx, hb, hml, hown, hts⟩, -⟩ := id C
  have hl9 := C.2.1.2.2.1
  intro x0 x1 x2 x3 x4 h H locs cells slots ls hH hL hl hrun
  unfold f_L_law_2315 at hrun
  refine V_aload_n (pc := 2315) hx hb dL_law_2315 rfl (lv_at hl 1 rfl) ?_
  refine lv_aload_n (pc := 2316) hx hb dL_law_2316 rfl (lv_at hl 0 rfl) ?_
  refine lv_iload (pc := 2317) hx hb dL_law_2317 (lv_at hl 4 rfl) ?_
  refine lv_iconst (v := (1 : Int32)) (pc := 2319) hx hb dL_law_2319 (by decide) ?_
  refine lv_iadd (pc := 2320) hx hb dL_law_2320 ?_
  obtain ⟨c387, hrun⟩ := gd_some hrun
  refine V_sld (pc := 2321) C hH hS dL_law_2321 c387 ?_
  refine lv_aload_n (pc := 2322) hx hb dL_law_2322 rfl (lv_at hl 0 rfl) ?_
  refine lv_iload (pc := 2323) hx hb dL_law_2323 (lv_at hl 4 rfl) ?_
  refine lv_iconst (v := (2 : Int32)) (pc := 2325) hx hb dL_law_2325 (by decide) ?_
  refine lv_iadd (pc := 2326) hx hb dL_law_2326 ?_
  obtain ⟨c388, hrun⟩ := gd_some hrun
  refine V_sld (pc := 2327) C hH hS dL_law_2327 c388 ?_
  refine V_aload_n (pc := 2328) hx hb dL_law_2328 rfl (lv_at hl 3 rfl) ?_
  refine V_bdN (pc := 2329) hL hrun (fun rr1 e1 => Z_runSH (rest := []) C hH (m_X0_takeOver hl9 e1) wSH_X0_263 rfl ⟨by decide, by decide⟩ rfl (Nat.le_of_ble_eq_true rfl) hl.1 dL_law_2329) (fun v389 h390 H locs cells slots hH hL hrun => ?_)
  refine lv_istore (i := 5) (lv' := [(5, .int v389), (0, .ref b), (1, rv x1), (2, rv x2), (3, rv x3), (4, .int x4)]) (pc := 2332) hx hb dL_law_2332 hl (by decide) rfl (fun ls hl => ?_)
  refine V_aload_n (pc := 2334) hx hb dL_law_2334 rfl (lv_at hl 3 rfl) ?_
  refine lv_aload_n (pc := 2335) hx hb dL_law_2335 rfl (lv_at hl 1 rfl) ?_
  refine lv_iload (pc := 2336) hx hb dL_law_2336 (lv_at hl 5 rfl) ?_
  refine lv_iconst (v := (1 : Int32)) (pc := 2338) hx hb dL_law_2338 (by decide) ?_
  refine lv_iadd (pc := 2339) hx hb dL_law_2339 ?_
  obtain ⟨c391, hrun⟩ := gd_some hrun
  refine V_sld (pc := 2340) C hH hS dL_law_2340 c391 ?_
  refine lv_aload_n (pc := 2341) hx hb dL_law_2341 rfl (lv_at hl 1 rfl) ?_
  refine lv_iload (pc := 2342) hx hb dL_law_2342 (lv_at hl 5 rfl) ?_
  refine lv_iconst (v := (2 : Int32)) (pc := 2344) hx hb dL_law_2344 (by decide) ?_
  refine lv_iadd (pc := 2345) hx hb dL_law_2345 ?_
  obtain ⟨c392, hrun⟩ := gd_some hrun
  refine V_sld (pc := 2346) C hH hS dL_law_2346 c392 ?_
  obtain ⟨c395, hrun⟩ := gd_some hrun
  refine V_bdN (pc := 2347) hL hrun (fun rr1 e1 => Z_runV (rest := []) C hH (m_X4_takeOver hl9 e1) wV_X0_265 c395 rfl (by decide) rfl rfl ⟨by decide, by decide⟩ rfl (Nat.le_of_ble_eq_true rfl) hl.1 dL_law_2347) (fun v393 h394 H locs cells slots hH hL hrun => ?_)
  refine lv_istore (i := 6) (lv' := [(6, .int v393), (5, .int v389), (0, .ref b), (1, rv x1), (2, rv x2), (3, rv x3), (4, .int x4)]) (pc := 2350) hx hb dL_law_2350 hl (by decide) rfl (fun ls hl => ?_)
  refine V_aload_n (pc := 2352) hx hb dL_law_2352 rfl (lv_at hl 4 rfl) ?_
  obtain ⟨c398, hrun⟩ := gd_some hrun
  refine V_bdN (pc := 2353) hL hrun (fun rr1 e1 => Z_runV (rest := []) C hH (m_X4_thrown hl9 e1) wV_X0_170 c398 rfl (by decide) rfl rfl ⟨by decide, by decide⟩ rfl (Nat.le_of_ble_eq_true rfl) hl.1 dL_law_2353) (fun v396 h397 H locs cells slots hH hL hrun => ?_)
  refine lv_iload (pc := 2356) hx hb dL_law_2356 (lv_at hl 1 rfl) ?_
  refine lv_icmp_eq (tgt := 2363) (pc := 2358) hx hb dL_law_2358 (by decide) (fun c_ => ?_) (fun c_ => ?_)
  · have hrun := ite_t hrun c_
    refine lv_iload (pc := 2363) hx hb dL_law_2363 (lv_at hl 1 rfl) ?_
    refine lv_if_ne (tgt := 2380) (pc := 2365) hx hb dL_law_2365 (by decide) (fun c_ => ?_) (fun c_ => ?_)
    · have hrun := ite_f hrun c_
      exact b_L_law_2380 C hok hS K23 x0 x1 x2 x3 x4 h397 H locs cells slots ls hH hL (lv_sub hl [2, 3, 4, 5, 6] rfl) hrun
    · have hrun := ite_t hrun c_
      refine V_aload_n (pc := 2368) hx hb dL_law_2368 rfl (lv_at hl 5 rfl) ?_
      refine lv_iconst (v := (0 : Int32)) (pc := 2369) hx hb dL_law_2369 (by decide) ?_
      obtain ⟨c399, hrun⟩ := gd_some hrun
      refine V_lald (pc := 2370) C hH dL_law_2370 c399 ?_
      refine lv_iload (pc := 2371) hx hb dL_law_2371 (lv_at hl 0 rfl) ?_
      refine lv_i2l (pc := 2373) hx hb dL_law_2373 rfl ?_
      refine V_lcmp_eq (tgt := 2380) (pc := 2374) hx hb dL_law_2374 dL_law_2375 (by decide) (fun c_ => ?_) (fun c_ => ?_)
      · have hrun := ite_t hrun c_
        exact b_L_law_2380 C hok hS K23 x0 x1 x2 x3 x4 h397 H locs cells slots ls hH hL (lv_sub hl [2, 3, 4, 5, 6] rfl) hrun
      · have hrun := ite_f hrun c_
        refine lv_iconst (v := (0 : Int32)) (pc := 2378) hx hb dL_law_2378 (by decide) ?_
        exact V_lawret (pc := 2379) C hH hL hok hrun dL_law_2379
  · have hrun := ite_f hrun c_
    refine lv_iconst (v := (0 : Int32)) (pc := 2361) hx hb dL_law_2361 (by decide) ?_
    exact V_lawret (pc := 2362) C hH hL hok hrun dL_law_2362

theorem b_L_law_2448 {rr : (Int32 ⊕ Ex) × Hp} {k23 : Unit → Nat → Nat → Nat → Int32 → Hp → Rt Int32} {b L : Nat} {xs : Nat → Int32} {et9 : List (Nat × Nat × Nat × Nat)} (C : CX p l room_1 s m #[Value.ref b] meth c D s.heap cL_law "MassclaimLaw" 9 ret et9 8192 104096) (hok : rr.1 = .inl 1) (hS : va_X b L xs s s.heap ∧ b < s.heap.size) (K23 : ∀ (x0 : Unit) (x1 : Nat) (x2 : Nat) (x3 : Nat) (x4 : Int32) (h : Hp) (H : Heap) (locs : List Loc) (cells slots : Nat) (ls : Array Slot), HP D s.heap h H → LO s.heap locs → lv_has ls 9 [(0, .ref b), (1, rv x1), (2, rv x2), (3, rv x3), (4, .int x4)] → k23 x0 x1 x2 x3 x4 h = some rr → W p l e room_1 s m #[Value.ref b] below meth c H locs cells slots (lw_Z below #[Value.ref b] s) (F0 m 23 ls [])) : ∀ (x0 : Unit) (x1 : Nat) (x2 : Nat) (x3 : Nat) (x4 : Int32) (h : Hp) (H : Heap) (locs : List Loc) (cells slots : Nat) (ls : Array Slot), HP D s.heap h H → LO s.heap locs → lv_has ls 9 [(0, .ref b), (1, rv x1), (2, rv x2), (3, rv x3), (4, .int x4)] → f_L_law_2448 L xs k23 x0 x1 x2 x3 x4 h = some rr → W p l e room_1 s m #[Value.ref b] below meth c H locs cells slots (lw_Z below #[Value.ref b] s) (F0 m 2448 ls []) := by
  obtain ⟨⟨hx, hb, hml, hown, hts⟩, -⟩ := id C
  have hl9 := C.2.1.2.2.1
  intro x0 x1 x2 x3 x4 h H locs cells slots ls hH hL hl hrun
  unfold f_L_law_2448 at hrun
  refine lv_goto (tgt := 3277) (pc := 2448) hx hb dL_law_2448 (by decide) ?_
  exact b_L_law_3277 C hok hS K23 x0 x1 x2 x3 x4 h H locs cells slots ls hH hL (lv_sub hl [0, 1, 2, 3, 4] rfl) hrun

theorem b_L_law_2383 {rr : (Int32 ⊕ Ex) × Hp} {k23 : Unit → Nat → Nat → Nat → Int32 → Hp → Rt Int32} {b L : Nat} {xs : Nat → Int32} {et9 : List (Nat × Nat × Nat × Nat)} (C : CX p l room_1 s m #[Value.ref b] meth c D s.heap cL_law "MassclaimLaw" 9 ret et9 8192 104096) (hok : rr.1 = .inl 1) (hS : va_X b L xs s s.heap ∧ b < s.heap.size) (K23 : ∀ (x0 : Unit) (x1 : Nat) (x2 : Nat) (x3 : Nat) (x4 : Int32) (h : Hp) (H : Heap) (locs : List Loc) (cells slots : Nat) (ls : Array Slot), HP D s.heap h H → LO s.heap locs → lv_has ls 9 [(0, .ref b), (1, rv x1), (2, rv x2), (3, rv x3), (4, .int x4)] → k23 x0 x1 x2 x3 x4 h = some rr → W p l e room_1 s m #[Value.ref b] below meth c H locs cells slots (lw_Z below #[Value.ref b] s) (F0 m 23 ls [])) : ∀ (x0 : Unit) (x1 : Nat) (x2 : Nat) (x3 : Nat) (x4 : Int32) (h : Hp) (H : Heap) (locs : List Loc) (cells slots : Nat) (ls : Array Slot), HP D s.heap h H → LO s.heap locs → lv_has ls 9 [(0, .ref b), (1, rv x1), (2, rv x2), (3, rv x3), (4, .int x4)] → f_L_law_2383 L xs k23 x0 x1 x2 x3 x4 h = some rr → W p l e room_1 s m #[Value.ref b] below meth c H locs cells slots (lw_Z below #[Value.ref b] s) (F0 m 2383 ls []) := by
  obtain ⟨⟨hx, hb, hml, hown, hts⟩, -⟩ := id C
  have hl9 := C.2.1.2.2.1
  intro x0 x1 x2 x3 x4 h H locs cells slots ls hH hL hl hrun
  unfold f_L_law_2383 at hrun
  refine V_aload_n (pc := 2383) hx hb dL_law_2383 rfl (lv_at hl 1 rfl) ?_
  refine lv_aload_n (pc := 2384) hx hb dL_law_2384 rfl (lv_at hl 0 rfl) ?_
  refine lv_iload (pc := 2385) hx hb dL_law_2385 (lv_at hl 4 rfl) ?_
  refine lv_iconst (v := (1 : Int32)) (pc := 2387) hx hb dL_law_2387 (by decide) ?_
  refine lv_iadd (pc := 2388) hx hb dL_law_2388 ?_
  obtain ⟨c400, hrun⟩ := gd_some hrun
  refine V_sld (pc := 2389) C hH hS dL_law_2389 c400 ?_
  refine lv_aload_n (pc := 2390) hx hb dL_law_2390 rfl (lv_at hl 0 rfl) ?_
  refine lv_iload (pc := 2391) hx hb dL_law_2391 (lv_at hl 4 rfl) ?_
  refine lv_iconst (v := (2 : Int32)) (pc := 2393) hx hb dL_law_2393 (by decide) ?_
  refine lv_iadd (pc := 2394) hx hb dL_law_2394 ?_
  obtain ⟨c401, hrun⟩ := gd_some hrun
  refine V_sld (pc := 2395) C hH hS dL_law_2395 c401 ?_
  refine V_aload_n (pc := 2396) hx hb dL_law_2396 rfl (lv_at hl 3 rfl) ?_
  refine V_bdN (pc := 2397) hL hrun (fun rr1 e1 => Z_runSH (rest := []) C hH (m_X0_parts hl9 e1) wSH_X0_266 rfl ⟨by decide, by decide⟩ rfl (Nat.le_of_ble_eq_true rfl) hl.1 dL_law_2397) (fun v402 h403 H locs cells slots hH hL hrun => ?_)
  refine lv_istore (i := 5) (lv' := [(5, .int v402), (0, .ref b), (1, rv x1), (2, rv x2), (3, rv x3), (4, .int x4)]) (pc := 2400) hx hb dL_law_2400 hl (by decide) rfl (fun ls hl => ?_)
  refine V_aload_n (pc := 2402) hx hb dL_law_2402 rfl (lv_at hl 3 rfl) ?_
  refine lv_aload_n (pc := 2403) hx hb dL_law_2403 rfl (lv_at hl 1 rfl) ?_
  refine lv_iload (pc := 2404) hx hb dL_law_2404 (lv_at hl 5 rfl) ?_
  refine lv_iconst (v := (1 : Int32)) (pc := 2406) hx hb dL_law_2406 (by decide) ?_
  refine lv_iadd (pc := 2407) hx hb dL_law_2407 ?_
  obtain ⟨c404, hrun⟩ := gd_some hrun
  refine V_sld (pc := 2408) C hH hS dL_law_2408 c404 ?_
  refine lv_aload_n (pc := 2409) hx hb dL_law_2409 rfl (lv_at hl 1 rfl) ?_
  refine lv_iload (pc := 2410) hx hb dL_law_2410 (lv_at hl 5 rfl) ?_
  refine lv_iconst (v := (2 : Int32)) (pc := 2412) hx hb dL_law_2412 (by decide) ?_
  refine lv_iadd (pc := 2413) hx hb dL_law_2413 ?_
  obtain ⟨c405, hrun⟩ := gd_some hrun
  refine V_sld (pc := 2414) C hH hS dL_law_2414 c405 ?_
  obtain ⟨c408, hrun⟩ := gd_some hrun
  refine V_bdN (pc := 2415) hL hrun (fun rr1 e1 => Z_runV (rest := []) C hH (m_X4_parts hl9 e1) wV_X0_268 c408 rfl (by decide) rfl rfl ⟨by decide, by decide⟩ rfl (Nat.le_of_ble_eq_true rfl) hl.1 dL_law_2415) (fun v406 h407 H locs cells slots hH hL hrun => ?_)
  refine lv_istore (i := 6) (lv' := [(6, .int v406), (5, .int v402), (0, .ref b), (1, rv x1), (2, rv x2), (3, rv x3), (4, .int x4)]) (pc := 2418) hx hb dL_law_2418 hl (by decide) rfl (fun ls hl => ?_)
  refine V_aload_n (pc := 2420) hx hb dL_law_2420 rfl (lv_at hl 4 rfl) ?_
  obtain ⟨c411, hrun⟩ := gd_some hrun
  refine V_bdN (pc := 2421) hL hrun (fun rr1 e1 => Z_runV (rest := []) C hH (m_X4_thrown hl9 e1) wV_X0_170 c411 rfl (by decide) rfl rfl ⟨by decide, by decide⟩ rfl (Nat.le_of_ble_eq_true rfl) hl.1 dL_law_2421) (fun v409 h410 H locs cells slots hH hL hrun => ?_)
  refine lv_iload (pc := 2424) hx hb dL_law_2424 (lv_at hl 1 rfl) ?_
  refine lv_icmp_eq (tgt := 2431) (pc := 2426) hx hb dL_law_2426 (by decide) (fun c_ => ?_) (fun c_ => ?_)
  · have hrun := ite_t hrun c_
    refine lv_iload (pc := 2431) hx hb dL_law_2431 (lv_at hl 1 rfl) ?_
    refine lv_if_ne (tgt := 2448) (pc := 2433) hx hb dL_law_2433 (by decide) (fun c_ => ?_) (fun c_ => ?_)
    · have hrun := ite_f hrun c_
      exact b_L_law_2448 C hok hS K23 x0 x1 x2 x3 x4 h410 H locs cells slots ls hH hL (lv_sub hl [2, 3, 4, 5, 6] rfl) hrun
    · have hrun := ite_t hrun c_
      refine V_aload_n (pc := 2436) hx hb dL_law_2436 rfl (lv_at hl 5 rfl) ?_
      refine lv_iconst (v := (0 : Int32)) (pc := 2437) hx hb dL_law_2437 (by decide) ?_
      obtain ⟨c412, hrun⟩ := gd_some hrun
      refine V_lald (pc := 2438) C hH dL_law_2438 c412 ?_
      refine lv_iload (pc := 2439) hx hb dL_law_2439 (lv_at hl 0 rfl) ?_
      refine lv_i2l (pc := 2441) hx hb dL_law_2441 rfl ?_
      refine V_lcmp_eq (tgt := 2448) (pc := 2442) hx hb dL_law_2442 dL_law_2443 (by decide) (fun c_ => ?_) (fun c_ => ?_)
      · have hrun := ite_t hrun c_
        exact b_L_law_2448 C hok hS K23 x0 x1 x2 x3 x4 h410 H locs cells slots ls hH hL (lv_sub hl [2, 3, 4, 5, 6] rfl) hrun
      · have hrun := ite_f hrun c_
        refine lv_iconst (v := (0 : Int32)) (pc := 2446) hx hb dL_law_2446 (by decide) ?_
        exact V_lawret (pc := 2447) C hH hL hok hrun dL_law_2447
  · have hrun := ite_f hrun c_
    refine lv_iconst (v := (0 : Int32)) (pc := 2429) hx hb dL_law_2429 (by decide) ?_
    exact V_lawret (pc := 2430) C hH hL hok hrun dL_law_2430

theorem b_L_law_2516 {rr : (Int32 ⊕ Ex) × Hp} {k23 : Unit → Nat → Nat → Nat → Int32 → Hp → Rt Int32} {b L : Nat} {xs : Nat → Int32} {et9 : List (Nat × Nat × Nat × Nat)} (C : CX p l room_1 s m #[Value.ref b] meth c D s.heap cL_law "MassclaimLaw" 9 ret et9 8192 104096) (hok : rr.1 = .inl 1) (hS : va_X b L xs s s.heap ∧ b < s.heap.size) (K23 : ∀ (x0 : Unit) (x1 : Nat) (x2 : Nat) (x3 : Nat) (x4 : Int32) (h : Hp) (H : Heap) (locs : List Loc) (cells slots : Nat) (ls : Array Slot), HP D s.heap h H → LO s.heap locs → lv_has ls 9 [(0, .ref b), (1, rv x1), (2, rv x2), (3, rv x3), (4, .int x4)] → k23 x0 x1 x2 x3 x4 h = some rr → W p l e room_1 s m #[Value.ref b] below meth c H locs cells slots (lw_Z below #[Value.ref b] s) (F0 m 23 ls [])) : ∀ (x0 : Unit) (x1 : Nat) (x2 : Nat) (x3 : Nat) (x4 : Int32) (h : Hp) (H : Heap) (locs : List Loc) (cells slots : Nat) (ls : Array Slot), HP D s.heap h H → LO s.heap locs → lv_has ls 9 [(0, .ref b), (1, rv x1), (2, rv x2), (3, rv x3), (4, .int x4)] → f_L_law_2516 L xs k23 x0 x1 x2 x3 x4 h = some rr → W p l e room_1 s m #[Value.ref b] below meth c H locs cells slots (lw_Z below #[Value.ref b] s) (F0 m 2516 ls []) := by
  obtain ⟨⟨hx, hb, hml, hown, hts⟩, -⟩ := id C
  have hl9 := C.2.1.2.2.1
  intro x0 x1 x2 x3 x4 h H locs cells slots ls hH hL hl hrun
  unfold f_L_law_2516 at hrun
  refine lv_goto (tgt := 3277) (pc := 2516) hx hb dL_law_2516 (by decide) ?_
  exact b_L_law_3277 C hok hS K23 x0 x1 x2 x3 x4 h H locs cells slots ls hH hL (lv_sub hl [0, 1, 2, 3, 4] rfl) hrun

theorem b_L_law_2451 {rr : (Int32 ⊕ Ex) × Hp} {k23 : Unit → Nat → Nat → Nat → Int32 → Hp → Rt Int32} {b L : Nat} {xs : Nat → Int32} {et9 : List (Nat × Nat × Nat × Nat)} (C : CX p l room_1 s m #[Value.ref b] meth c D s.heap cL_law "MassclaimLaw" 9 ret et9 8192 104096) (hok : rr.1 = .inl 1) (hS : va_X b L xs s s.heap ∧ b < s.heap.size) (K23 : ∀ (x0 : Unit) (x1 : Nat) (x2 : Nat) (x3 : Nat) (x4 : Int32) (h : Hp) (H : Heap) (locs : List Loc) (cells slots : Nat) (ls : Array Slot), HP D s.heap h H → LO s.heap locs → lv_has ls 9 [(0, .ref b), (1, rv x1), (2, rv x2), (3, rv x3), (4, .int x4)] → k23 x0 x1 x2 x3 x4 h = some rr → W p l e room_1 s m #[Value.ref b] below meth c H locs cells slots (lw_Z below #[Value.ref b] s) (F0 m 23 ls [])) : ∀ (x0 : Unit) (x1 : Nat) (x2 : Nat) (x3 : Nat) (x4 : Int32) (h : Hp) (H : Heap) (locs : List Loc) (cells slots : Nat) (ls : Array Slot), HP D s.heap h H → LO s.heap locs → lv_has ls 9 [(0, .ref b), (1, rv x1), (2, rv x2), (3, rv x3), (4, .int x4)] → f_L_law_2451 L xs k23 x0 x1 x2 x3 x4 h = some rr → W p l e room_1 s m #[Value.ref b] below meth c H locs cells slots (lw_Z below #[Value.ref b] s) (F0 m 2451 ls []) := by
  obtain ⟨⟨hx, hb, hml, hown, hts⟩, -⟩ := id C
  have hl9 := C.2.1.2.2.1
  intro x0 x1 x2 x3 x4 h H locs cells slots ls hH hL hl hrun
  unfold f_L_law_2451 at hrun
  refine V_aload_n (pc := 2451) hx hb dL_law_2451 rfl (lv_at hl 1 rfl) ?_
  refine lv_aload_n (pc := 2452) hx hb dL_law_2452 rfl (lv_at hl 0 rfl) ?_
  refine lv_iload (pc := 2453) hx hb dL_law_2453 (lv_at hl 4 rfl) ?_
  refine lv_iconst (v := (1 : Int32)) (pc := 2455) hx hb dL_law_2455 (by decide) ?_
  refine lv_iadd (pc := 2456) hx hb dL_law_2456 ?_
  obtain ⟨c413, hrun⟩ := gd_some hrun
  refine V_sld (pc := 2457) C hH hS dL_law_2457 c413 ?_
  refine lv_aload_n (pc := 2458) hx hb dL_law_2458 rfl (lv_at hl 0 rfl) ?_
  refine lv_iload (pc := 2459) hx hb dL_law_2459 (lv_at hl 4 rfl) ?_
  refine lv_iconst (v := (2 : Int32)) (pc := 2461) hx hb dL_law_2461 (by decide) ?_
  refine lv_iadd (pc := 2462) hx hb dL_law_2462 ?_
  obtain ⟨c414, hrun⟩ := gd_some hrun
  refine V_sld (pc := 2463) C hH hS dL_law_2463 c414 ?_
  refine V_aload_n (pc := 2464) hx hb dL_law_2464 rfl (lv_at hl 3 rfl) ?_
  refine V_bdN (pc := 2465) hL hrun (fun rr1 e1 => Z_runSH (rest := []) C hH (m_X0_cure hl9 e1) wSH_X0_269 rfl ⟨by decide, by decide⟩ rfl (Nat.le_of_ble_eq_true rfl) hl.1 dL_law_2465) (fun v415 h416 H locs cells slots hH hL hrun => ?_)
  refine lv_istore (i := 5) (lv' := [(5, .int v415), (0, .ref b), (1, rv x1), (2, rv x2), (3, rv x3), (4, .int x4)]) (pc := 2468) hx hb dL_law_2468 hl (by decide) rfl (fun ls hl => ?_)
  refine V_aload_n (pc := 2470) hx hb dL_law_2470 rfl (lv_at hl 3 rfl) ?_
  refine lv_aload_n (pc := 2471) hx hb dL_law_2471 rfl (lv_at hl 1 rfl) ?_
  refine lv_iload (pc := 2472) hx hb dL_law_2472 (lv_at hl 5 rfl) ?_
  refine lv_iconst (v := (1 : Int32)) (pc := 2474) hx hb dL_law_2474 (by decide) ?_
  refine lv_iadd (pc := 2475) hx hb dL_law_2475 ?_
  obtain ⟨c417, hrun⟩ := gd_some hrun
  refine V_sld (pc := 2476) C hH hS dL_law_2476 c417 ?_
  refine lv_aload_n (pc := 2477) hx hb dL_law_2477 rfl (lv_at hl 1 rfl) ?_
  refine lv_iload (pc := 2478) hx hb dL_law_2478 (lv_at hl 5 rfl) ?_
  refine lv_iconst (v := (2 : Int32)) (pc := 2480) hx hb dL_law_2480 (by decide) ?_
  refine lv_iadd (pc := 2481) hx hb dL_law_2481 ?_
  obtain ⟨c418, hrun⟩ := gd_some hrun
  refine V_sld (pc := 2482) C hH hS dL_law_2482 c418 ?_
  obtain ⟨c421, hrun⟩ := gd_some hrun
  refine V_bdN (pc := 2483) hL hrun (fun rr1 e1 => Z_runV (rest := []) C hH (m_X4_cure hl9 e1) wV_X0_271 c421 rfl (by decide) rfl rfl ⟨by decide, by decide⟩ rfl (Nat.le_of_ble_eq_true rfl) hl.1 dL_law_2483) (fun v419 h420 H locs cells slots hH hL hrun => ?_)
  refine lv_istore (i := 6) (lv' := [(6, .int v419), (5, .int v415), (0, .ref b), (1, rv x1), (2, rv x2), (3, rv x3), (4, .int x4)]) (pc := 2486) hx hb dL_law_2486 hl (by decide) rfl (fun ls hl => ?_)
  refine V_aload_n (pc := 2488) hx hb dL_law_2488 rfl (lv_at hl 4 rfl) ?_
  obtain ⟨c424, hrun⟩ := gd_some hrun
  refine V_bdN (pc := 2489) hL hrun (fun rr1 e1 => Z_runV (rest := []) C hH (m_X4_thrown hl9 e1) wV_X0_170 c424 rfl (by decide) rfl rfl ⟨by decide, by decide⟩ rfl (Nat.le_of_ble_eq_true rfl) hl.1 dL_law_2489) (fun v422 h423 H locs cells slots hH hL hrun => ?_)
  refine lv_iload (pc := 2492) hx hb dL_law_2492 (lv_at hl 1 rfl) ?_
  refine lv_icmp_eq (tgt := 2499) (pc := 2494) hx hb dL_law_2494 (by decide) (fun c_ => ?_) (fun c_ => ?_)
  · have hrun := ite_t hrun c_
    refine lv_iload (pc := 2499) hx hb dL_law_2499 (lv_at hl 1 rfl) ?_
    refine lv_if_ne (tgt := 2516) (pc := 2501) hx hb dL_law_2501 (by decide) (fun c_ => ?_) (fun c_ => ?_)
    · have hrun := ite_f hrun c_
      exact b_L_law_2516 C hok hS K23 x0 x1 x2 x3 x4 h423 H locs cells slots ls hH hL (lv_sub hl [2, 3, 4, 5, 6] rfl) hrun
    · have hrun := ite_t hrun c_
      refine V_aload_n (pc := 2504) hx hb dL_law_2504 rfl (lv_at hl 5 rfl) ?_
      refine lv_iconst (v := (0 : Int32)) (pc := 2505) hx hb dL_law_2505 (by decide) ?_
      obtain ⟨c425, hrun⟩ := gd_some hrun
      refine V_lald (pc := 2506) C hH dL_law_2506 c425 ?_
      refine lv_iload (pc := 2507) hx hb dL_law_2507 (lv_at hl 0 rfl) ?_
      refine lv_i2l (pc := 2509) hx hb dL_law_2509 rfl ?_
      refine V_lcmp_eq (tgt := 2516) (pc := 2510) hx hb dL_law_2510 dL_law_2511 (by decide) (fun c_ => ?_) (fun c_ => ?_)
      · have hrun := ite_t hrun c_
        exact b_L_law_2516 C hok hS K23 x0 x1 x2 x3 x4 h423 H locs cells slots ls hH hL (lv_sub hl [2, 3, 4, 5, 6] rfl) hrun
      · have hrun := ite_f hrun c_
        refine lv_iconst (v := (0 : Int32)) (pc := 2514) hx hb dL_law_2514 (by decide) ?_
        exact V_lawret (pc := 2515) C hH hL hok hrun dL_law_2515
  · have hrun := ite_f hrun c_
    refine lv_iconst (v := (0 : Int32)) (pc := 2497) hx hb dL_law_2497 (by decide) ?_
    exact V_lawret (pc := 2498) C hH hL hok hrun dL_law_2498

theorem b_L_law_2572 {rr : (Int32 ⊕ Ex) × Hp} {k23 : Unit → Nat → Nat → Nat → Int32 → Hp → Rt Int32} {b L : Nat} {xs : Nat → Int32} {et9 : List (Nat × Nat × Nat × Nat)} (C : CX p l room_1 s m #[Value.ref b] meth c D s.heap cL_law "MassclaimLaw" 9 ret et9 8192 104096) (hok : rr.1 = .inl 1) (hS : va_X b L xs s s.heap ∧ b < s.heap.size) (K23 : ∀ (x0 : Unit) (x1 : Nat) (x2 : Nat) (x3 : Nat) (x4 : Int32) (h : Hp) (H : Heap) (locs : List Loc) (cells slots : Nat) (ls : Array Slot), HP D s.heap h H → LO s.heap locs → lv_has ls 9 [(0, .ref b), (1, rv x1), (2, rv x2), (3, rv x3), (4, .int x4)] → k23 x0 x1 x2 x3 x4 h = some rr → W p l e room_1 s m #[Value.ref b] below meth c H locs cells slots (lw_Z below #[Value.ref b] s) (F0 m 23 ls [])) : ∀ (x0 : Unit) (x1 : Nat) (x2 : Nat) (x3 : Nat) (x4 : Int32) (h : Hp) (H : Heap) (locs : List Loc) (cells slots : Nat) (ls : Array Slot), HP D s.heap h H → LO s.heap locs → lv_has ls 9 [(0, .ref b), (1, rv x1), (2, rv x2), (3, rv x3), (4, .int x4)] → f_L_law_2572 L xs k23 x0 x1 x2 x3 x4 h = some rr → W p l e room_1 s m #[Value.ref b] below meth c H locs cells slots (lw_Z below #[Value.ref b] s) (F0 m 2572 ls []) := by
  obtain ⟨⟨hx, hb, hml, hown, hts⟩, -⟩ := id C
  have hl9 := C.2.1.2.2.1
  intro x0 x1 x2 x3 x4 h H locs cells slots ls hH hL hl hrun
  unfold f_L_law_2572 at hrun
  refine lv_goto (tgt := 3277) (pc := 2572) hx hb dL_law_2572 (by decide) ?_
  exact b_L_law_3277 C hok hS K23 x0 x1 x2 x3 x4 h H locs cells slots ls hH hL (lv_sub hl [0, 1, 2, 3, 4] rfl) hrun

theorem b_L_law_2519 {rr : (Int32 ⊕ Ex) × Hp} {k23 : Unit → Nat → Nat → Nat → Int32 → Hp → Rt Int32} {b L : Nat} {xs : Nat → Int32} {et9 : List (Nat × Nat × Nat × Nat)} (C : CX p l room_1 s m #[Value.ref b] meth c D s.heap cL_law "MassclaimLaw" 9 ret et9 8192 104096) (hok : rr.1 = .inl 1) (hS : va_X b L xs s s.heap ∧ b < s.heap.size) (K23 : ∀ (x0 : Unit) (x1 : Nat) (x2 : Nat) (x3 : Nat) (x4 : Int32) (h : Hp) (H : Heap) (locs : List Loc) (cells slots : Nat) (ls : Array Slot), HP D s.heap h H → LO s.heap locs → lv_has ls 9 [(0, .ref b), (1, rv x1), (2, rv x2), (3, rv x3), (4, .int x4)] → k23 x0 x1 x2 x3 x4 h = some rr → W p l e room_1 s m #[Value.ref b] below meth c H locs cells slots (lw_Z below #[Value.ref b] s) (F0 m 23 ls [])) : ∀ (x0 : Unit) (x1 : Nat) (x2 : Nat) (x3 : Nat) (x4 : Int32) (h : Hp) (H : Heap) (locs : List Loc) (cells slots : Nat) (ls : Array Slot), HP D s.heap h H → LO s.heap locs → lv_has ls 9 [(0, .ref b), (1, rv x1), (2, rv x2), (3, rv x3), (4, .int x4)] → f_L_law_2519 L xs k23 x0 x1 x2 x3 x4 h = some rr → W p l e room_1 s m #[Value.ref b] below meth c H locs cells slots (lw_Z below #[Value.ref b] s) (F0 m 2519 ls []) := by
  obtain ⟨⟨hx, hb, hml, hown, hts⟩, -⟩ := id C
  have hl9 := C.2.1.2.2.1
  intro x0 x1 x2 x3 x4 h H locs cells slots ls hH hL hl hrun
  unfold f_L_law_2519 at hrun
  refine V_aload_n (pc := 2519) hx hb dL_law_2519 rfl (lv_at hl 1 rfl) ?_
  refine lv_aload_n (pc := 2520) hx hb dL_law_2520 rfl (lv_at hl 0 rfl) ?_
  refine lv_iload (pc := 2521) hx hb dL_law_2521 (lv_at hl 4 rfl) ?_
  refine lv_iconst (v := (1 : Int32)) (pc := 2523) hx hb dL_law_2523 (by decide) ?_
  refine lv_iadd (pc := 2524) hx hb dL_law_2524 ?_
  obtain ⟨c426, hrun⟩ := gd_some hrun
  refine V_sld (pc := 2525) C hH hS dL_law_2525 c426 ?_
  refine V_aload_n (pc := 2526) hx hb dL_law_2526 rfl (lv_at hl 3 rfl) ?_
  refine V_bdN (pc := 2527) hL hrun (fun rr1 e1 => Z_runSH (rest := []) C hH (m_X0_sample hl9 e1) wSH_X0_272 rfl ⟨by decide, by decide⟩ rfl (Nat.le_of_ble_eq_true rfl) hl.1 dL_law_2527) (fun v427 h428 H locs cells slots hH hL hrun => ?_)
  refine lv_istore (i := 5) (lv' := [(5, .int v427), (0, .ref b), (1, rv x1), (2, rv x2), (3, rv x3), (4, .int x4)]) (pc := 2530) hx hb dL_law_2530 hl (by decide) rfl (fun ls hl => ?_)
  refine V_aload_n (pc := 2532) hx hb dL_law_2532 rfl (lv_at hl 3 rfl) ?_
  refine lv_aload_n (pc := 2533) hx hb dL_law_2533 rfl (lv_at hl 1 rfl) ?_
  refine lv_iload (pc := 2534) hx hb dL_law_2534 (lv_at hl 5 rfl) ?_
  refine lv_iconst (v := (1 : Int32)) (pc := 2536) hx hb dL_law_2536 (by decide) ?_
  refine lv_iadd (pc := 2537) hx hb dL_law_2537 ?_
  obtain ⟨c429, hrun⟩ := gd_some hrun
  refine V_sld (pc := 2538) C hH hS dL_law_2538 c429 ?_
  obtain ⟨c432, hrun⟩ := gd_some hrun
  refine V_bdN (pc := 2539) hL hrun (fun rr1 e1 => Z_runV (rest := []) C hH (m_X4_sample hl9 e1) wV_X0_274 c432 rfl (by decide) rfl rfl ⟨by decide, by decide⟩ rfl (Nat.le_of_ble_eq_true rfl) hl.1 dL_law_2539) (fun v430 h431 H locs cells slots hH hL hrun => ?_)
  refine lv_istore (i := 6) (lv' := [(6, .int v430), (5, .int v427), (0, .ref b), (1, rv x1), (2, rv x2), (3, rv x3), (4, .int x4)]) (pc := 2542) hx hb dL_law_2542 hl (by decide) rfl (fun ls hl => ?_)
  refine V_aload_n (pc := 2544) hx hb dL_law_2544 rfl (lv_at hl 4 rfl) ?_
  obtain ⟨c435, hrun⟩ := gd_some hrun
  refine V_bdN (pc := 2545) hL hrun (fun rr1 e1 => Z_runV (rest := []) C hH (m_X4_thrown hl9 e1) wV_X0_170 c435 rfl (by decide) rfl rfl ⟨by decide, by decide⟩ rfl (Nat.le_of_ble_eq_true rfl) hl.1 dL_law_2545) (fun v433 h434 H locs cells slots hH hL hrun => ?_)
  refine lv_iload (pc := 2548) hx hb dL_law_2548 (lv_at hl 1 rfl) ?_
  refine lv_icmp_eq (tgt := 2555) (pc := 2550) hx hb dL_law_2550 (by decide) (fun c_ => ?_) (fun c_ => ?_)
  · have hrun := ite_t hrun c_
    refine lv_iload (pc := 2555) hx hb dL_law_2555 (lv_at hl 1 rfl) ?_
    refine lv_if_ne (tgt := 2572) (pc := 2557) hx hb dL_law_2557 (by decide) (fun c_ => ?_) (fun c_ => ?_)
    · have hrun := ite_f hrun c_
      exact b_L_law_2572 C hok hS K23 x0 x1 x2 x3 x4 h434 H locs cells slots ls hH hL (lv_sub hl [2, 3, 4, 5, 6] rfl) hrun
    · have hrun := ite_t hrun c_
      refine V_aload_n (pc := 2560) hx hb dL_law_2560 rfl (lv_at hl 5 rfl) ?_
      refine lv_iconst (v := (0 : Int32)) (pc := 2561) hx hb dL_law_2561 (by decide) ?_
      obtain ⟨c436, hrun⟩ := gd_some hrun
      refine V_lald (pc := 2562) C hH dL_law_2562 c436 ?_
      refine lv_iload (pc := 2563) hx hb dL_law_2563 (lv_at hl 0 rfl) ?_
      refine lv_i2l (pc := 2565) hx hb dL_law_2565 rfl ?_
      refine V_lcmp_eq (tgt := 2572) (pc := 2566) hx hb dL_law_2566 dL_law_2567 (by decide) (fun c_ => ?_) (fun c_ => ?_)
      · have hrun := ite_t hrun c_
        exact b_L_law_2572 C hok hS K23 x0 x1 x2 x3 x4 h434 H locs cells slots ls hH hL (lv_sub hl [2, 3, 4, 5, 6] rfl) hrun
      · have hrun := ite_f hrun c_
        refine lv_iconst (v := (0 : Int32)) (pc := 2570) hx hb dL_law_2570 (by decide) ?_
        exact V_lawret (pc := 2571) C hH hL hok hrun dL_law_2571
  · have hrun := ite_f hrun c_
    refine lv_iconst (v := (0 : Int32)) (pc := 2553) hx hb dL_law_2553 (by decide) ?_
    exact V_lawret (pc := 2554) C hH hL hok hrun dL_law_2554

theorem b_L_law_2656 {rr : (Int32 ⊕ Ex) × Hp} {k23 : Unit → Nat → Nat → Nat → Int32 → Hp → Rt Int32} {b L : Nat} {xs : Nat → Int32} {et9 : List (Nat × Nat × Nat × Nat)} (C : CX p l room_1 s m #[Value.ref b] meth c D s.heap cL_law "MassclaimLaw" 9 ret et9 8192 104096) (hok : rr.1 = .inl 1) (hS : va_X b L xs s s.heap ∧ b < s.heap.size) (K23 : ∀ (x0 : Unit) (x1 : Nat) (x2 : Nat) (x3 : Nat) (x4 : Int32) (h : Hp) (H : Heap) (locs : List Loc) (cells slots : Nat) (ls : Array Slot), HP D s.heap h H → LO s.heap locs → lv_has ls 9 [(0, .ref b), (1, rv x1), (2, rv x2), (3, rv x3), (4, .int x4)] → k23 x0 x1 x2 x3 x4 h = some rr → W p l e room_1 s m #[Value.ref b] below meth c H locs cells slots (lw_Z below #[Value.ref b] s) (F0 m 23 ls [])) : ∀ (x0 : Unit) (x1 : Nat) (x2 : Nat) (x3 : Nat) (x4 : Int32) (h : Hp) (H : Heap) (locs : List Loc) (cells slots : Nat) (ls : Array Slot), HP D s.heap h H → LO s.heap locs → lv_has ls 9 [(0, .ref b), (1, rv x1), (2, rv x2), (3, rv x3), (4, .int x4)] → f_L_law_2656 L xs k23 x0 x1 x2 x3 x4 h = some rr → W p l e room_1 s m #[Value.ref b] below meth c H locs cells slots (lw_Z below #[Value.ref b] s) (F0 m 2656 ls []) := by
  obtain ⟨⟨hx, hb, hml, hown, hts⟩, -⟩ := id C
  have hl9 := C.2.1.2.2.1
  intro x0 x1 x2 x3 x4 h H locs cells slots ls hH hL hl hrun
  unfold f_L_law_2656 at hrun
  refine lv_goto (tgt := 3277) (pc := 2656) hx hb dL_law_2656 (by decide) ?_
  exact b_L_law_3277 C hok hS K23 x0 x1 x2 x3 x4 h H locs cells slots ls hH hL (lv_sub hl [0, 1, 2, 3, 4] rfl) hrun

theorem b_L_law_2623 {rr : (Int32 ⊕ Ex) × Hp} {k23 : Unit → Nat → Nat → Nat → Int32 → Hp → Rt Int32} {b L : Nat} {xs : Nat → Int32} {et9 : List (Nat × Nat × Nat × Nat)} (C : CX p l room_1 s m #[Value.ref b] meth c D s.heap cL_law "MassclaimLaw" 9 ret et9 8192 104096) (hok : rr.1 = .inl 1) (hS : va_X b L xs s s.heap ∧ b < s.heap.size) (K23 : ∀ (x0 : Unit) (x1 : Nat) (x2 : Nat) (x3 : Nat) (x4 : Int32) (h : Hp) (H : Heap) (locs : List Loc) (cells slots : Nat) (ls : Array Slot), HP D s.heap h H → LO s.heap locs → lv_has ls 9 [(0, .ref b), (1, rv x1), (2, rv x2), (3, rv x3), (4, .int x4)] → k23 x0 x1 x2 x3 x4 h = some rr → W p l e room_1 s m #[Value.ref b] below meth c H locs cells slots (lw_Z below #[Value.ref b] s) (F0 m 23 ls [])) : ∀ (x0 : Unit) (x1 : Nat) (x2 : Nat) (x3 : Nat) (x4 : Int32) (x5 : Int32) (y0 : Nat) (y1 : Int32) (y2 : Int32) (h : Hp) (H : Heap) (locs : List Loc) (cells slots : Nat) (ls : Array Slot), HP D s.heap h H → LO s.heap locs → lv_has ls 9 [(0, .ref b), (1, rv x1), (2, rv x2), (3, rv x3), (4, .int x4), (5, .int x5)] → f_L_law_2623 L xs k23 x0 x1 x2 x3 x4 x5 y0 y1 y2 h = some rr → W p l e room_1 s m #[Value.ref b] below meth c H locs cells slots (lw_Z below #[Value.ref b] s) (F0 m 2623 ls [.int y2, .int y1, rv y0]) := by
  obtain ⟨⟨hx, hb, hml, hown, hts⟩, -⟩ := id C
  have hl9 := C.2.1.2.2.1
  intro x0 x1 x2 x3 x4 x5 y0 y1 y2 h H locs cells slots ls hH hL hl hrun
  unfold f_L_law_2623 at hrun
  obtain ⟨c439, hrun⟩ := gd_some hrun
  refine V_bdN (pc := 2623) hL hrun (fun rr1 e1 => Z_runV (rest := []) C hH (m_X4_audit hl9 e1) wV_X0_277 c439 rfl (by decide) rfl rfl ⟨by decide, by decide⟩ rfl (Nat.le_of_ble_eq_true rfl) hl.1 dL_law_2623) (fun v437 h438 H locs cells slots hH hL hrun => ?_)
  refine lv_istore (i := 6) (lv' := [(6, .int v437), (0, .ref b), (1, rv x1), (2, rv x2), (3, rv x3), (4, .int x4), (5, .int x5)]) (pc := 2626) hx hb dL_law_2626 hl (by decide) rfl (fun ls hl => ?_)
  refine V_aload_n (pc := 2628) hx hb dL_law_2628 rfl (lv_at hl 3 rfl) ?_
  obtain ⟨c442, hrun⟩ := gd_some hrun
  refine V_bdN (pc := 2629) hL hrun (fun rr1 e1 => Z_runV (rest := []) C hH (m_X4_thrown hl9 e1) wV_X0_170 c442 rfl (by decide) rfl rfl ⟨by decide, by decide⟩ rfl (Nat.le_of_ble_eq_true rfl) hl.1 dL_law_2629) (fun v440 h441 H locs cells slots hH hL hrun => ?_)
  refine lv_iload (pc := 2632) hx hb dL_law_2632 (lv_at hl 6 rfl) ?_
  refine lv_icmp_eq (tgt := 2639) (pc := 2634) hx hb dL_law_2634 (by decide) (fun c_ => ?_) (fun c_ => ?_)
  · have hrun := ite_t hrun c_
    refine lv_iload (pc := 2639) hx hb dL_law_2639 (lv_at hl 6 rfl) ?_
    refine lv_if_ne (tgt := 2656) (pc := 2641) hx hb dL_law_2641 (by decide) (fun c_ => ?_) (fun c_ => ?_)
    · have hrun := ite_f hrun c_
      exact b_L_law_2656 C hok hS K23 x0 x1 x2 x3 x4 h441 H locs cells slots ls hH hL (lv_sub hl [1, 2, 3, 4, 5] rfl) hrun
    · have hrun := ite_t hrun c_
      refine V_aload_n (pc := 2644) hx hb dL_law_2644 rfl (lv_at hl 4 rfl) ?_
      refine lv_iconst (v := (0 : Int32)) (pc := 2645) hx hb dL_law_2645 (by decide) ?_
      obtain ⟨c443, hrun⟩ := gd_some hrun
      refine V_lald (pc := 2646) C hH dL_law_2646 c443 ?_
      refine lv_iload (pc := 2647) hx hb dL_law_2647 (lv_at hl 0 rfl) ?_
      refine lv_i2l (pc := 2649) hx hb dL_law_2649 rfl ?_
      refine V_lcmp_eq (tgt := 2656) (pc := 2650) hx hb dL_law_2650 dL_law_2651 (by decide) (fun c_ => ?_) (fun c_ => ?_)
      · have hrun := ite_t hrun c_
        exact b_L_law_2656 C hok hS K23 x0 x1 x2 x3 x4 h441 H locs cells slots ls hH hL (lv_sub hl [1, 2, 3, 4, 5] rfl) hrun
      · have hrun := ite_f hrun c_
        refine lv_iconst (v := (0 : Int32)) (pc := 2654) hx hb dL_law_2654 (by decide) ?_
        exact V_lawret (pc := 2655) C hH hL hok hrun dL_law_2655
  · have hrun := ite_f hrun c_
    refine lv_iconst (v := (0 : Int32)) (pc := 2637) hx hb dL_law_2637 (by decide) ?_
    exact V_lawret (pc := 2638) C hH hL hok hrun dL_law_2638

theorem b_L_law_2596 {rr : (Int32 ⊕ Ex) × Hp} {k23 : Unit → Nat → Nat → Nat → Int32 → Hp → Rt Int32} {b L : Nat} {xs : Nat → Int32} {et9 : List (Nat × Nat × Nat × Nat)} (C : CX p l room_1 s m #[Value.ref b] meth c D s.heap cL_law "MassclaimLaw" 9 ret et9 8192 104096) (hok : rr.1 = .inl 1) (hS : va_X b L xs s s.heap ∧ b < s.heap.size) (K23 : ∀ (x0 : Unit) (x1 : Nat) (x2 : Nat) (x3 : Nat) (x4 : Int32) (h : Hp) (H : Heap) (locs : List Loc) (cells slots : Nat) (ls : Array Slot), HP D s.heap h H → LO s.heap locs → lv_has ls 9 [(0, .ref b), (1, rv x1), (2, rv x2), (3, rv x3), (4, .int x4)] → k23 x0 x1 x2 x3 x4 h = some rr → W p l e room_1 s m #[Value.ref b] below meth c H locs cells slots (lw_Z below #[Value.ref b] s) (F0 m 23 ls [])) : ∀ (x0 : Unit) (x1 : Nat) (x2 : Nat) (x3 : Nat) (x4 : Int32) (y0 : Nat) (y1 : Int32) (y2 : Int32) (h : Hp) (H : Heap) (locs : List Loc) (cells slots : Nat) (ls : Array Slot), HP D s.heap h H → LO s.heap locs → lv_has ls 9 [(0, .ref b), (1, rv x1), (2, rv x2), (3, rv x3), (4, .int x4)] → f_L_law_2596 L xs k23 x0 x1 x2 x3 x4 y0 y1 y2 h = some rr → W p l e room_1 s m #[Value.ref b] below meth c H locs cells slots (lw_Z below #[Value.ref b] s) (F0 m 2596 ls [.int y2, .int y1, rv y0]) := by
  obtain ⟨⟨hx, hb, hml, hown, hts⟩, -⟩ := id C
  have hl9 := C.2.1.2.2.1
  intro x0 x1 x2 x3 x4 y0 y1 y2 h H locs cells slots ls hH hL hl hrun
  unfold f_L_law_2596 at hrun
  refine V_aload_n (pc := 2596) hx hb dL_law_2596 rfl (lv_at hl 3 rfl) ?_
  refine V_bdN (pc := 2597) hL hrun (fun rr1 e1 => Z_runSH (rest := []) C hH (m_X0_audit hl9 e1) wSH_X0_275 rfl ⟨by decide, by decide⟩ rfl (Nat.le_of_ble_eq_true rfl) hl.1 dL_law_2597) (fun v444 h445 H locs cells slots hH hL hrun => ?_)
  refine lv_istore (i := 5) (lv' := [(5, .int v444), (0, .ref b), (1, rv x1), (2, rv x2), (3, rv x3), (4, .int x4)]) (pc := 2600) hx hb dL_law_2600 hl (by decide) rfl (fun ls hl => ?_)
  refine V_aload_n (pc := 2602) hx hb dL_law_2602 rfl (lv_at hl 3 rfl) ?_
  refine lv_aload_n (pc := 2603) hx hb dL_law_2603 rfl (lv_at hl 1 rfl) ?_
  refine lv_iload (pc := 2604) hx hb dL_law_2604 (lv_at hl 5 rfl) ?_
  refine lv_iconst (v := (1 : Int32)) (pc := 2606) hx hb dL_law_2606 (by decide) ?_
  refine lv_iadd (pc := 2607) hx hb dL_law_2607 ?_
  obtain ⟨c446, hrun⟩ := gd_some hrun
  refine V_sld (pc := 2608) C hH hS dL_law_2608 c446 ?_
  refine lv_aload_n (pc := 2609) hx hb dL_law_2609 rfl (lv_at hl 1 rfl) ?_
  refine lv_iload (pc := 2610) hx hb dL_law_2610 (lv_at hl 5 rfl) ?_
  refine lv_iconst (v := (2 : Int32)) (pc := 2612) hx hb dL_law_2612 (by decide) ?_
  refine lv_iadd (pc := 2613) hx hb dL_law_2613 ?_
  obtain ⟨c447, hrun⟩ := gd_some hrun
  refine V_sld (pc := 2614) C hH hS dL_law_2614 c447 ?_
  refine lv_if_eq (tgt := 2622) (pc := 2615) hx hb dL_law_2615 (by decide) (fun c_ => ?_) (fun c_ => ?_)
  · have hrun := ite_t hrun c_
    refine lv_iconst (v := (0 : Int32)) (pc := 2622) hx hb dL_law_2622 (by decide) ?_
    exact b_L_law_2623 C hok hS K23 x0 x1 x2 x3 x4 v444 x2 (xs ((x4 + (1 : Int32))).toNatClampNeg) (0 : Int32) h445 H locs cells slots ls hH hL (lv_sub hl [1, 2, 3, 4, 5, 0] rfl) hrun
  · have hrun := ite_f hrun c_
    refine lv_iconst (v := (1 : Int32)) (pc := 2618) hx hb dL_law_2618 (by decide) ?_
    refine lv_goto (tgt := 2623) (pc := 2619) hx hb dL_law_2619 (by decide) ?_
    exact b_L_law_2623 C hok hS K23 x0 x1 x2 x3 x4 v444 x2 (xs ((x4 + (1 : Int32))).toNatClampNeg) (1 : Int32) h445 H locs cells slots ls hH hL (lv_sub hl [1, 2, 3, 4, 5, 0] rfl) hrun

theorem b_L_law_2575 {rr : (Int32 ⊕ Ex) × Hp} {k23 : Unit → Nat → Nat → Nat → Int32 → Hp → Rt Int32} {b L : Nat} {xs : Nat → Int32} {et9 : List (Nat × Nat × Nat × Nat)} (C : CX p l room_1 s m #[Value.ref b] meth c D s.heap cL_law "MassclaimLaw" 9 ret et9 8192 104096) (hok : rr.1 = .inl 1) (hS : va_X b L xs s s.heap ∧ b < s.heap.size) (K23 : ∀ (x0 : Unit) (x1 : Nat) (x2 : Nat) (x3 : Nat) (x4 : Int32) (h : Hp) (H : Heap) (locs : List Loc) (cells slots : Nat) (ls : Array Slot), HP D s.heap h H → LO s.heap locs → lv_has ls 9 [(0, .ref b), (1, rv x1), (2, rv x2), (3, rv x3), (4, .int x4)] → k23 x0 x1 x2 x3 x4 h = some rr → W p l e room_1 s m #[Value.ref b] below meth c H locs cells slots (lw_Z below #[Value.ref b] s) (F0 m 23 ls [])) : ∀ (x0 : Unit) (x1 : Nat) (x2 : Nat) (x3 : Nat) (x4 : Int32) (h : Hp) (H : Heap) (locs : List Loc) (cells slots : Nat) (ls : Array Slot), HP D s.heap h H → LO s.heap locs → lv_has ls 9 [(0, .ref b), (1, rv x1), (2, rv x2), (3, rv x3), (4, .int x4)] → f_L_law_2575 L xs k23 x0 x1 x2 x3 x4 h = some rr → W p l e room_1 s m #[Value.ref b] below meth c H locs cells slots (lw_Z below #[Value.ref b] s) (F0 m 2575 ls []) := by
  obtain ⟨⟨hx, hb, hml, hown, hts⟩, -⟩ := id C
  have hl9 := C.2.1.2.2.1
  intro x0 x1 x2 x3 x4 h H locs cells slots ls hH hL hl hrun
  unfold f_L_law_2575 at hrun
  refine V_aload_n (pc := 2575) hx hb dL_law_2575 rfl (lv_at hl 1 rfl) ?_
  refine lv_aload_n (pc := 2576) hx hb dL_law_2576 rfl (lv_at hl 0 rfl) ?_
  refine lv_iload (pc := 2577) hx hb dL_law_2577 (lv_at hl 4 rfl) ?_
  refine lv_iconst (v := (1 : Int32)) (pc := 2579) hx hb dL_law_2579 (by decide) ?_
  refine lv_iadd (pc := 2580) hx hb dL_law_2580 ?_
  obtain ⟨c448, hrun⟩ := gd_some hrun
  refine V_sld (pc := 2581) C hH hS dL_law_2581 c448 ?_
  refine lv_aload_n (pc := 2582) hx hb dL_law_2582 rfl (lv_at hl 0 rfl) ?_
  refine lv_iload (pc := 2583) hx hb dL_law_2583 (lv_at hl 4 rfl) ?_
  refine lv_iconst (v := (2 : Int32)) (pc := 2585) hx hb dL_law_2585 (by decide) ?_
  refine lv_iadd (pc := 2586) hx hb dL_law_2586 ?_
  obtain ⟨c449, hrun⟩ := gd_some hrun
  refine V_sld (pc := 2587) C hH hS dL_law_2587 c449 ?_
  refine lv_if_eq (tgt := 2595) (pc := 2588) hx hb dL_law_2588 (by decide) (fun c_ => ?_) (fun c_ => ?_)
  · have hrun := ite_t hrun c_
    refine lv_iconst (v := (0 : Int32)) (pc := 2595) hx hb dL_law_2595 (by decide) ?_
    exact b_L_law_2596 C hok hS K23 x0 x1 x2 x3 x4 x1 (xs ((x4 + (1 : Int32))).toNatClampNeg) (0 : Int32) h H locs cells slots ls hH hL (lv_sub hl [0, 1, 2, 3, 4] rfl) hrun
  · have hrun := ite_f hrun c_
    refine lv_iconst (v := (1 : Int32)) (pc := 2591) hx hb dL_law_2591 (by decide) ?_
    refine lv_goto (tgt := 2596) (pc := 2592) hx hb dL_law_2592 (by decide) ?_
    exact b_L_law_2596 C hok hS K23 x0 x1 x2 x3 x4 x1 (xs ((x4 + (1 : Int32))).toNatClampNeg) (1 : Int32) h H locs cells slots ls hH hL (lv_sub hl [0, 1, 2, 3, 4] rfl) hrun

theorem b_L_law_2740 {rr : (Int32 ⊕ Ex) × Hp} {k23 : Unit → Nat → Nat → Nat → Int32 → Hp → Rt Int32} {b L : Nat} {xs : Nat → Int32} {et9 : List (Nat × Nat × Nat × Nat)} (C : CX p l room_1 s m #[Value.ref b] meth c D s.heap cL_law "MassclaimLaw" 9 ret et9 8192 104096) (hok : rr.1 = .inl 1) (hS : va_X b L xs s s.heap ∧ b < s.heap.size) (K23 : ∀ (x0 : Unit) (x1 : Nat) (x2 : Nat) (x3 : Nat) (x4 : Int32) (h : Hp) (H : Heap) (locs : List Loc) (cells slots : Nat) (ls : Array Slot), HP D s.heap h H → LO s.heap locs → lv_has ls 9 [(0, .ref b), (1, rv x1), (2, rv x2), (3, rv x3), (4, .int x4)] → k23 x0 x1 x2 x3 x4 h = some rr → W p l e room_1 s m #[Value.ref b] below meth c H locs cells slots (lw_Z below #[Value.ref b] s) (F0 m 23 ls [])) : ∀ (x0 : Unit) (x1 : Nat) (x2 : Nat) (x3 : Nat) (x4 : Int32) (h : Hp) (H : Heap) (locs : List Loc) (cells slots : Nat) (ls : Array Slot), HP D s.heap h H → LO s.heap locs → lv_has ls 9 [(0, .ref b), (1, rv x1), (2, rv x2), (3, rv x3), (4, .int x4)] → f_L_law_2740 L xs k23 x0 x1 x2 x3 x4 h = some rr → W p l e room_1 s m #[Value.ref b] below meth c H locs cells slots (lw_Z below #[Value.ref b] s) (F0 m 2740 ls []) := by
  obtain ⟨⟨hx, hb, hml, hown, hts⟩, -⟩ := id C
  have hl9 := C.2.1.2.2.1
  intro x0 x1 x2 x3 x4 h H locs cells slots ls hH hL hl hrun
  unfold f_L_law_2740 at hrun
  refine lv_goto (tgt := 3277) (pc := 2740) hx hb dL_law_2740 (by decide) ?_
  exact b_L_law_3277 C hok hS K23 x0 x1 x2 x3 x4 h H locs cells slots ls hH hL (lv_sub hl [0, 1, 2, 3, 4] rfl) hrun

theorem b_L_law_2707 {rr : (Int32 ⊕ Ex) × Hp} {k23 : Unit → Nat → Nat → Nat → Int32 → Hp → Rt Int32} {b L : Nat} {xs : Nat → Int32} {et9 : List (Nat × Nat × Nat × Nat)} (C : CX p l room_1 s m #[Value.ref b] meth c D s.heap cL_law "MassclaimLaw" 9 ret et9 8192 104096) (hok : rr.1 = .inl 1) (hS : va_X b L xs s s.heap ∧ b < s.heap.size) (K23 : ∀ (x0 : Unit) (x1 : Nat) (x2 : Nat) (x3 : Nat) (x4 : Int32) (h : Hp) (H : Heap) (locs : List Loc) (cells slots : Nat) (ls : Array Slot), HP D s.heap h H → LO s.heap locs → lv_has ls 9 [(0, .ref b), (1, rv x1), (2, rv x2), (3, rv x3), (4, .int x4)] → k23 x0 x1 x2 x3 x4 h = some rr → W p l e room_1 s m #[Value.ref b] below meth c H locs cells slots (lw_Z below #[Value.ref b] s) (F0 m 23 ls [])) : ∀ (x0 : Unit) (x1 : Nat) (x2 : Nat) (x3 : Nat) (x4 : Int32) (x5 : Int32) (y0 : Nat) (y1 : Int32) (y2 : Int32) (h : Hp) (H : Heap) (locs : List Loc) (cells slots : Nat) (ls : Array Slot), HP D s.heap h H → LO s.heap locs → lv_has ls 9 [(0, .ref b), (1, rv x1), (2, rv x2), (3, rv x3), (4, .int x4), (5, .int x5)] → f_L_law_2707 L xs k23 x0 x1 x2 x3 x4 x5 y0 y1 y2 h = some rr → W p l e room_1 s m #[Value.ref b] below meth c H locs cells slots (lw_Z below #[Value.ref b] s) (F0 m 2707 ls [.int y2, .int y1, rv y0]) := by
  obtain ⟨⟨hx, hb, hml, hown, hts⟩, -⟩ := id C
  have hl9 := C.2.1.2.2.1
  intro x0 x1 x2 x3 x4 x5 y0 y1 y2 h H locs cells slots ls hH hL hl hrun
  unfold f_L_law_2707 at hrun
  obtain ⟨c452, hrun⟩ := gd_some hrun
  refine V_bdN (pc := 2707) hL hrun (fun rr1 e1 => Z_runV (rest := []) C hH (m_X4_appeal hl9 e1) wV_X0_280 c452 rfl (by decide) rfl rfl ⟨by decide, by decide⟩ rfl (Nat.le_of_ble_eq_true rfl) hl.1 dL_law_2707) (fun v450 h451 H locs cells slots hH hL hrun => ?_)
  refine lv_istore (i := 6) (lv' := [(6, .int v450), (0, .ref b), (1, rv x1), (2, rv x2), (3, rv x3), (4, .int x4), (5, .int x5)]) (pc := 2710) hx hb dL_law_2710 hl (by decide) rfl (fun ls hl => ?_)
  refine V_aload_n (pc := 2712) hx hb dL_law_2712 rfl (lv_at hl 3 rfl) ?_
  obtain ⟨c455, hrun⟩ := gd_some hrun
  refine V_bdN (pc := 2713) hL hrun (fun rr1 e1 => Z_runV (rest := []) C hH (m_X4_thrown hl9 e1) wV_X0_170 c455 rfl (by decide) rfl rfl ⟨by decide, by decide⟩ rfl (Nat.le_of_ble_eq_true rfl) hl.1 dL_law_2713) (fun v453 h454 H locs cells slots hH hL hrun => ?_)
  refine lv_iload (pc := 2716) hx hb dL_law_2716 (lv_at hl 6 rfl) ?_
  refine lv_icmp_eq (tgt := 2723) (pc := 2718) hx hb dL_law_2718 (by decide) (fun c_ => ?_) (fun c_ => ?_)
  · have hrun := ite_t hrun c_
    refine lv_iload (pc := 2723) hx hb dL_law_2723 (lv_at hl 6 rfl) ?_
    refine lv_if_ne (tgt := 2740) (pc := 2725) hx hb dL_law_2725 (by decide) (fun c_ => ?_) (fun c_ => ?_)
    · have hrun := ite_f hrun c_
      exact b_L_law_2740 C hok hS K23 x0 x1 x2 x3 x4 h454 H locs cells slots ls hH hL (lv_sub hl [1, 2, 3, 4, 5] rfl) hrun
    · have hrun := ite_t hrun c_
      refine V_aload_n (pc := 2728) hx hb dL_law_2728 rfl (lv_at hl 4 rfl) ?_
      refine lv_iconst (v := (0 : Int32)) (pc := 2729) hx hb dL_law_2729 (by decide) ?_
      obtain ⟨c456, hrun⟩ := gd_some hrun
      refine V_lald (pc := 2730) C hH dL_law_2730 c456 ?_
      refine lv_iload (pc := 2731) hx hb dL_law_2731 (lv_at hl 0 rfl) ?_
      refine lv_i2l (pc := 2733) hx hb dL_law_2733 rfl ?_
      refine V_lcmp_eq (tgt := 2740) (pc := 2734) hx hb dL_law_2734 dL_law_2735 (by decide) (fun c_ => ?_) (fun c_ => ?_)
      · have hrun := ite_t hrun c_
        exact b_L_law_2740 C hok hS K23 x0 x1 x2 x3 x4 h454 H locs cells slots ls hH hL (lv_sub hl [1, 2, 3, 4, 5] rfl) hrun
      · have hrun := ite_f hrun c_
        refine lv_iconst (v := (0 : Int32)) (pc := 2738) hx hb dL_law_2738 (by decide) ?_
        exact V_lawret (pc := 2739) C hH hL hok hrun dL_law_2739
  · have hrun := ite_f hrun c_
    refine lv_iconst (v := (0 : Int32)) (pc := 2721) hx hb dL_law_2721 (by decide) ?_
    exact V_lawret (pc := 2722) C hH hL hok hrun dL_law_2722

theorem b_L_law_2680 {rr : (Int32 ⊕ Ex) × Hp} {k23 : Unit → Nat → Nat → Nat → Int32 → Hp → Rt Int32} {b L : Nat} {xs : Nat → Int32} {et9 : List (Nat × Nat × Nat × Nat)} (C : CX p l room_1 s m #[Value.ref b] meth c D s.heap cL_law "MassclaimLaw" 9 ret et9 8192 104096) (hok : rr.1 = .inl 1) (hS : va_X b L xs s s.heap ∧ b < s.heap.size) (K23 : ∀ (x0 : Unit) (x1 : Nat) (x2 : Nat) (x3 : Nat) (x4 : Int32) (h : Hp) (H : Heap) (locs : List Loc) (cells slots : Nat) (ls : Array Slot), HP D s.heap h H → LO s.heap locs → lv_has ls 9 [(0, .ref b), (1, rv x1), (2, rv x2), (3, rv x3), (4, .int x4)] → k23 x0 x1 x2 x3 x4 h = some rr → W p l e room_1 s m #[Value.ref b] below meth c H locs cells slots (lw_Z below #[Value.ref b] s) (F0 m 23 ls [])) : ∀ (x0 : Unit) (x1 : Nat) (x2 : Nat) (x3 : Nat) (x4 : Int32) (y0 : Nat) (y1 : Int32) (y2 : Int32) (h : Hp) (H : Heap) (locs : List Loc) (cells slots : Nat) (ls : Array Slot), HP D s.heap h H → LO s.heap locs → lv_has ls 9 [(0, .ref b), (1, rv x1), (2, rv x2), (3, rv x3), (4, .int x4)] → f_L_law_2680 L xs k23 x0 x1 x2 x3 x4 y0 y1 y2 h = some rr → W p l e room_1 s m #[Value.ref b] below meth c H locs cells slots (lw_Z below #[Value.ref b] s) (F0 m 2680 ls [.int y2, .int y1, rv y0]) := by
  obtain ⟨⟨hx, hb, hml, hown, hts⟩, -⟩ := id C
  have hl9 := C.2.1.2.2.1
  intro x0 x1 x2 x3 x4 y0 y1 y2 h H locs cells slots ls hH hL hl hrun
  unfold f_L_law_2680 at hrun
  refine V_aload_n (pc := 2680) hx hb dL_law_2680 rfl (lv_at hl 3 rfl) ?_
  refine V_bdN (pc := 2681) hL hrun (fun rr1 e1 => Z_runSH (rest := []) C hH (m_X0_appeal hl9 e1) wSH_X0_278 rfl ⟨by decide, by decide⟩ rfl (Nat.le_of_ble_eq_true rfl) hl.1 dL_law_2681) (fun v457 h458 H locs cells slots hH hL hrun => ?_)
  refine lv_istore (i := 5) (lv' := [(5, .int v457), (0, .ref b), (1, rv x1), (2, rv x2), (3, rv x3), (4, .int x4)]) (pc := 2684) hx hb dL_law_2684 hl (by decide) rfl (fun ls hl => ?_)
  refine V_aload_n (pc := 2686) hx hb dL_law_2686 rfl (lv_at hl 3 rfl) ?_
  refine lv_aload_n (pc := 2687) hx hb dL_law_2687 rfl (lv_at hl 1 rfl) ?_
  refine lv_iload (pc := 2688) hx hb dL_law_2688 (lv_at hl 5 rfl) ?_
  refine lv_iconst (v := (1 : Int32)) (pc := 2690) hx hb dL_law_2690 (by decide) ?_
  refine lv_iadd (pc := 2691) hx hb dL_law_2691 ?_
  obtain ⟨c459, hrun⟩ := gd_some hrun
  refine V_sld (pc := 2692) C hH hS dL_law_2692 c459 ?_
  refine lv_aload_n (pc := 2693) hx hb dL_law_2693 rfl (lv_at hl 1 rfl) ?_
  refine lv_iload (pc := 2694) hx hb dL_law_2694 (lv_at hl 5 rfl) ?_
  refine lv_iconst (v := (2 : Int32)) (pc := 2696) hx hb dL_law_2696 (by decide) ?_
  refine lv_iadd (pc := 2697) hx hb dL_law_2697 ?_
  obtain ⟨c460, hrun⟩ := gd_some hrun
  refine V_sld (pc := 2698) C hH hS dL_law_2698 c460 ?_
  refine lv_if_eq (tgt := 2706) (pc := 2699) hx hb dL_law_2699 (by decide) (fun c_ => ?_) (fun c_ => ?_)
  · have hrun := ite_t hrun c_
    refine lv_iconst (v := (0 : Int32)) (pc := 2706) hx hb dL_law_2706 (by decide) ?_
    exact b_L_law_2707 C hok hS K23 x0 x1 x2 x3 x4 v457 x2 (xs ((x4 + (1 : Int32))).toNatClampNeg) (0 : Int32) h458 H locs cells slots ls hH hL (lv_sub hl [1, 2, 3, 4, 5, 0] rfl) hrun
  · have hrun := ite_f hrun c_
    refine lv_iconst (v := (1 : Int32)) (pc := 2702) hx hb dL_law_2702 (by decide) ?_
    refine lv_goto (tgt := 2707) (pc := 2703) hx hb dL_law_2703 (by decide) ?_
    exact b_L_law_2707 C hok hS K23 x0 x1 x2 x3 x4 v457 x2 (xs ((x4 + (1 : Int32))).toNatClampNeg) (1 : Int32) h458 H locs cells slots ls hH hL (lv_sub hl [1, 2, 3, 4, 5, 0] rfl) hrun

theorem b_L_law_2659 {rr : (Int32 ⊕ Ex) × Hp} {k23 : Unit → Nat → Nat → Nat → Int32 → Hp → Rt Int32} {b L : Nat} {xs : Nat → Int32} {et9 : List (Nat × Nat × Nat × Nat)} (C : CX p l room_1 s m #[Value.ref b] meth c D s.heap cL_law "MassclaimLaw" 9 ret et9 8192 104096) (hok : rr.1 = .inl 1) (hS : va_X b L xs s s.heap ∧ b < s.heap.size) (K23 : ∀ (x0 : Unit) (x1 : Nat) (x2 : Nat) (x3 : Nat) (x4 : Int32) (h : Hp) (H : Heap) (locs : List Loc) (cells slots : Nat) (ls : Array Slot), HP D s.heap h H → LO s.heap locs → lv_has ls 9 [(0, .ref b), (1, rv x1), (2, rv x2), (3, rv x3), (4, .int x4)] → k23 x0 x1 x2 x3 x4 h = some rr → W p l e room_1 s m #[Value.ref b] below meth c H locs cells slots (lw_Z below #[Value.ref b] s) (F0 m 23 ls [])) : ∀ (x0 : Unit) (x1 : Nat) (x2 : Nat) (x3 : Nat) (x4 : Int32) (h : Hp) (H : Heap) (locs : List Loc) (cells slots : Nat) (ls : Array Slot), HP D s.heap h H → LO s.heap locs → lv_has ls 9 [(0, .ref b), (1, rv x1), (2, rv x2), (3, rv x3), (4, .int x4)] → f_L_law_2659 L xs k23 x0 x1 x2 x3 x4 h = some rr → W p l e room_1 s m #[Value.ref b] below meth c H locs cells slots (lw_Z below #[Value.ref b] s) (F0 m 2659 ls []) := by
  obtain ⟨⟨hx, hb, hml, hown, hts⟩, -⟩ := id C
  have hl9 := C.2.1.2.2.1
  intro x0 x1 x2 x3 x4 h H locs cells slots ls hH hL hl hrun
  unfold f_L_law_2659 at hrun
  refine V_aload_n (pc := 2659) hx hb dL_law_2659 rfl (lv_at hl 1 rfl) ?_
  refine lv_aload_n (pc := 2660) hx hb dL_law_2660 rfl (lv_at hl 0 rfl) ?_
  refine lv_iload (pc := 2661) hx hb dL_law_2661 (lv_at hl 4 rfl) ?_
  refine lv_iconst (v := (1 : Int32)) (pc := 2663) hx hb dL_law_2663 (by decide) ?_
  refine lv_iadd (pc := 2664) hx hb dL_law_2664 ?_
  obtain ⟨c461, hrun⟩ := gd_some hrun
  refine V_sld (pc := 2665) C hH hS dL_law_2665 c461 ?_
  refine lv_aload_n (pc := 2666) hx hb dL_law_2666 rfl (lv_at hl 0 rfl) ?_
  refine lv_iload (pc := 2667) hx hb dL_law_2667 (lv_at hl 4 rfl) ?_
  refine lv_iconst (v := (2 : Int32)) (pc := 2669) hx hb dL_law_2669 (by decide) ?_
  refine lv_iadd (pc := 2670) hx hb dL_law_2670 ?_
  obtain ⟨c462, hrun⟩ := gd_some hrun
  refine V_sld (pc := 2671) C hH hS dL_law_2671 c462 ?_
  refine lv_if_eq (tgt := 2679) (pc := 2672) hx hb dL_law_2672 (by decide) (fun c_ => ?_) (fun c_ => ?_)
  · have hrun := ite_t hrun c_
    refine lv_iconst (v := (0 : Int32)) (pc := 2679) hx hb dL_law_2679 (by decide) ?_
    exact b_L_law_2680 C hok hS K23 x0 x1 x2 x3 x4 x1 (xs ((x4 + (1 : Int32))).toNatClampNeg) (0 : Int32) h H locs cells slots ls hH hL (lv_sub hl [0, 1, 2, 3, 4] rfl) hrun
  · have hrun := ite_f hrun c_
    refine lv_iconst (v := (1 : Int32)) (pc := 2675) hx hb dL_law_2675 (by decide) ?_
    refine lv_goto (tgt := 2680) (pc := 2676) hx hb dL_law_2676 (by decide) ?_
    exact b_L_law_2680 C hok hS K23 x0 x1 x2 x3 x4 x1 (xs ((x4 + (1 : Int32))).toNatClampNeg) (1 : Int32) h H locs cells slots ls hH hL (lv_sub hl [0, 1, 2, 3, 4] rfl) hrun

theorem b_L_law_2803 {rr : (Int32 ⊕ Ex) × Hp} {k23 : Unit → Nat → Nat → Nat → Int32 → Hp → Rt Int32} {b L : Nat} {xs : Nat → Int32} {et9 : List (Nat × Nat × Nat × Nat)} (C : CX p l room_1 s m #[Value.ref b] meth c D s.heap cL_law "MassclaimLaw" 9 ret et9 8192 104096) (hok : rr.1 = .inl 1) (hS : va_X b L xs s s.heap ∧ b < s.heap.size) (K23 : ∀ (x0 : Unit) (x1 : Nat) (x2 : Nat) (x3 : Nat) (x4 : Int32) (h : Hp) (H : Heap) (locs : List Loc) (cells slots : Nat) (ls : Array Slot), HP D s.heap h H → LO s.heap locs → lv_has ls 9 [(0, .ref b), (1, rv x1), (2, rv x2), (3, rv x3), (4, .int x4)] → k23 x0 x1 x2 x3 x4 h = some rr → W p l e room_1 s m #[Value.ref b] below meth c H locs cells slots (lw_Z below #[Value.ref b] s) (F0 m 23 ls [])) : ∀ (x0 : Unit) (x1 : Nat) (x2 : Nat) (x3 : Nat) (x4 : Int32) (h : Hp) (H : Heap) (locs : List Loc) (cells slots : Nat) (ls : Array Slot), HP D s.heap h H → LO s.heap locs → lv_has ls 9 [(0, .ref b), (1, rv x1), (2, rv x2), (3, rv x3), (4, .int x4)] → f_L_law_2803 L xs k23 x0 x1 x2 x3 x4 h = some rr → W p l e room_1 s m #[Value.ref b] below meth c H locs cells slots (lw_Z below #[Value.ref b] s) (F0 m 2803 ls []) := by
  obtain ⟨⟨hx, hb, hml, hown, hts⟩, -⟩ := id C
  have hl9 := C.2.1.2.2.1
  intro x0 x1 x2 x3 x4 h H locs cells slots ls hH hL hl hrun
  unfold f_L_law_2803 at hrun
  refine lv_goto (tgt := 3277) (pc := 2803) hx hb dL_law_2803 (by decide) ?_
  exact b_L_law_3277 C hok hS K23 x0 x1 x2 x3 x4 h H locs cells slots ls hH hL (lv_sub hl [0, 1, 2, 3, 4] rfl) hrun

theorem b_L_law_2797 {rr : (Int32 ⊕ Ex) × Hp} {k23 : Unit → Nat → Nat → Nat → Int32 → Hp → Rt Int32} {b L : Nat} {xs : Nat → Int32} {et9 : List (Nat × Nat × Nat × Nat)} (C : CX p l room_1 s m #[Value.ref b] meth c D s.heap cL_law "MassclaimLaw" 9 ret et9 8192 104096) (hok : rr.1 = .inl 1) (hS : va_X b L xs s s.heap ∧ b < s.heap.size) (K23 : ∀ (x0 : Unit) (x1 : Nat) (x2 : Nat) (x3 : Nat) (x4 : Int32) (h : Hp) (H : Heap) (locs : List Loc) (cells slots : Nat) (ls : Array Slot), HP D s.heap h H → LO s.heap locs → lv_has ls 9 [(0, .ref b), (1, rv x1), (2, rv x2), (3, rv x3), (4, .int x4)] → k23 x0 x1 x2 x3 x4 h = some rr → W p l e room_1 s m #[Value.ref b] below meth c H locs cells slots (lw_Z below #[Value.ref b] s) (F0 m 23 ls [])) : ∀ (x0 : Unit) (x1 : Nat) (x2 : Nat) (x3 : Nat) (x4 : Int32) (y0 : Int64) (y1 : Int64) (h : Hp) (H : Heap) (locs : List Loc) (cells slots : Nat) (ls : Array Slot), HP D s.heap h H → LO s.heap locs → lv_has ls 9 [(0, .ref b), (1, rv x1), (2, rv x2), (3, rv x3), (4, .int x4)] → f_L_law_2797 L xs k23 x0 x1 x2 x3 x4 y0 y1 h = some rr → W p l e room_1 s m #[Value.ref b] below meth c H locs cells slots (lw_Z below #[Value.ref b] s) (F0 m 2797 ls [.long y1, .long y0]) := by
  obtain ⟨⟨hx, hb, hml, hown, hts⟩, -⟩ := id C
  have hl9 := C.2.1.2.2.1
  intro x0 x1 x2 x3 x4 y0 y1 h H locs cells slots ls hH hL hl hrun
  unfold f_L_law_2797 at hrun
  refine V_lcmp_eq (tgt := 2803) (pc := 2797) hx hb dL_law_2797 dL_law_2798 (by decide) (fun c_ => ?_) (fun c_ => ?_)
  · have hrun := ite_t hrun c_
    exact b_L_law_2803 C hok hS K23 x0 x1 x2 x3 x4 h H locs cells slots ls hH hL (lv_sub hl [0, 1, 2, 3, 4] rfl) hrun
  · have hrun := ite_f hrun c_
    refine lv_iconst (v := (0 : Int32)) (pc := 2801) hx hb dL_law_2801 (by decide) ?_
    exact V_lawret (pc := 2802) C hH hL hok hrun dL_law_2802

theorem b_L_law_2743 {rr : (Int32 ⊕ Ex) × Hp} {k23 : Unit → Nat → Nat → Nat → Int32 → Hp → Rt Int32} {b L : Nat} {xs : Nat → Int32} {et9 : List (Nat × Nat × Nat × Nat)} (C : CX p l room_1 s m #[Value.ref b] meth c D s.heap cL_law "MassclaimLaw" 9 ret et9 8192 104096) (hok : rr.1 = .inl 1) (hS : va_X b L xs s s.heap ∧ b < s.heap.size) (K23 : ∀ (x0 : Unit) (x1 : Nat) (x2 : Nat) (x3 : Nat) (x4 : Int32) (h : Hp) (H : Heap) (locs : List Loc) (cells slots : Nat) (ls : Array Slot), HP D s.heap h H → LO s.heap locs → lv_has ls 9 [(0, .ref b), (1, rv x1), (2, rv x2), (3, rv x3), (4, .int x4)] → k23 x0 x1 x2 x3 x4 h = some rr → W p l e room_1 s m #[Value.ref b] below meth c H locs cells slots (lw_Z below #[Value.ref b] s) (F0 m 23 ls [])) : ∀ (x0 : Unit) (x1 : Nat) (x2 : Nat) (x3 : Nat) (x4 : Int32) (h : Hp) (H : Heap) (locs : List Loc) (cells slots : Nat) (ls : Array Slot), HP D s.heap h H → LO s.heap locs → lv_has ls 9 [(0, .ref b), (1, rv x1), (2, rv x2), (3, rv x3), (4, .int x4)] → f_L_law_2743 L xs k23 x0 x1 x2 x3 x4 h = some rr → W p l e room_1 s m #[Value.ref b] below meth c H locs cells slots (lw_Z below #[Value.ref b] s) (F0 m 2743 ls []) := by
  obtain ⟨⟨hx, hb, hml, hown, hts⟩, -⟩ := id C
  have hl9 := C.2.1.2.2.1
  intro x0 x1 x2 x3 x4 h H locs cells slots ls hH hL hl hrun
  unfold f_L_law_2743 at hrun
  refine V_aload_n (pc := 2743) hx hb dL_law_2743 rfl (lv_at hl 1 rfl) ?_
  refine lv_aload_n (pc := 2744) hx hb dL_law_2744 rfl (lv_at hl 0 rfl) ?_
  refine lv_iload (pc := 2745) hx hb dL_law_2745 (lv_at hl 4 rfl) ?_
  refine lv_iconst (v := (1 : Int32)) (pc := 2747) hx hb dL_law_2747 (by decide) ?_
  refine lv_iadd (pc := 2748) hx hb dL_law_2748 ?_
  obtain ⟨c463, hrun⟩ := gd_some hrun
  refine V_sld (pc := 2749) C hH hS dL_law_2749 c463 ?_
  refine V_aload_n (pc := 2750) hx hb dL_law_2750 rfl (lv_at hl 3 rfl) ?_
  refine V_bdN (pc := 2751) hL hrun (fun rr1 e1 => Z_runSH (rest := []) C hH (m_X0_percent hl9 e1) wSH_X0_281 rfl ⟨by decide, by decide⟩ rfl (Nat.le_of_ble_eq_true rfl) hl.1 dL_law_2751) (fun v464 h465 H locs cells slots hH hL hrun => ?_)
  refine lv_istore (i := 5) (lv' := [(5, .int v464), (0, .ref b), (1, rv x1), (2, rv x2), (3, rv x3), (4, .int x4)]) (pc := 2754) hx hb dL_law_2754 hl (by decide) rfl (fun ls hl => ?_)
  refine V_aload_n (pc := 2756) hx hb dL_law_2756 rfl (lv_at hl 3 rfl) ?_
  refine lv_aload_n (pc := 2757) hx hb dL_law_2757 rfl (lv_at hl 1 rfl) ?_
  refine lv_iload (pc := 2758) hx hb dL_law_2758 (lv_at hl 5 rfl) ?_
  refine lv_iconst (v := (1 : Int32)) (pc := 2760) hx hb dL_law_2760 (by decide) ?_
  refine lv_iadd (pc := 2761) hx hb dL_law_2761 ?_
  obtain ⟨c466, hrun⟩ := gd_some hrun
  refine V_sld (pc := 2762) C hH hS dL_law_2762 c466 ?_
  obtain ⟨c469, hrun⟩ := gd_some hrun
  refine V_bdN (pc := 2763) hL hrun (fun rr1 e1 => Z_runV (rest := []) C hH (m_X4_percent hl9 e1) wV_X0_283 c469 rfl (by decide) rfl rfl ⟨by decide, by decide⟩ rfl (Nat.le_of_ble_eq_true rfl) hl.1 dL_law_2763) (fun v467 h468 H locs cells slots hH hL hrun => ?_)
  refine lv_istore (i := 6) (lv' := [(6, .int v467), (5, .int v464), (0, .ref b), (1, rv x1), (2, rv x2), (3, rv x3), (4, .int x4)]) (pc := 2766) hx hb dL_law_2766 hl (by decide) rfl (fun ls hl => ?_)
  refine V_aload_n (pc := 2768) hx hb dL_law_2768 rfl (lv_at hl 4 rfl) ?_
  obtain ⟨c472, hrun⟩ := gd_some hrun
  refine V_bdN (pc := 2769) hL hrun (fun rr1 e1 => Z_runV (rest := []) C hH (m_X4_thrown hl9 e1) wV_X0_170 c472 rfl (by decide) rfl rfl ⟨by decide, by decide⟩ rfl (Nat.le_of_ble_eq_true rfl) hl.1 dL_law_2769) (fun v470 h471 H locs cells slots hH hL hrun => ?_)
  refine lv_iload (pc := 2772) hx hb dL_law_2772 (lv_at hl 1 rfl) ?_
  refine lv_icmp_eq (tgt := 2779) (pc := 2774) hx hb dL_law_2774 (by decide) (fun c_ => ?_) (fun c_ => ?_)
  · have hrun := ite_t hrun c_
    refine lv_iload (pc := 2779) hx hb dL_law_2779 (lv_at hl 1 rfl) ?_
    refine lv_if_ne (tgt := 2803) (pc := 2781) hx hb dL_law_2781 (by decide) (fun c_ => ?_) (fun c_ => ?_)
    · have hrun := ite_f hrun c_
      exact b_L_law_2803 C hok hS K23 x0 x1 x2 x3 x4 h471 H locs cells slots ls hH hL (lv_sub hl [2, 3, 4, 5, 6] rfl) hrun
    · have hrun := ite_t hrun c_
      refine V_aload_n (pc := 2784) hx hb dL_law_2784 rfl (lv_at hl 5 rfl) ?_
      refine lv_iconst (v := (0 : Int32)) (pc := 2785) hx hb dL_law_2785 (by decide) ?_
      obtain ⟨c473, hrun⟩ := gd_some hrun
      refine V_lald (pc := 2786) C hH dL_law_2786 c473 ?_
      refine lv_iload (pc := 2787) hx hb dL_law_2787 (lv_at hl 0 rfl) ?_
      refine lv_if_eq (tgt := 2796) (pc := 2789) hx hb dL_law_2789 (by decide) (fun c_ => ?_) (fun c_ => ?_)
      · have hrun := ite_t hrun c_
        refine lv_lconst (v := (0 : Int64)) (pc := 2796) hx hb dL_law_2796 (by decide) ?_
        exact b_L_law_2797 C hok hS K23 x0 x1 x2 x3 x4 (jL h471 x3 ((0 : Int32)).toNatClampNeg) (0 : Int64) h471 H locs cells slots ls hH hL (lv_sub hl [2, 3, 4, 5, 6] rfl) hrun
      · have hrun := ite_f hrun c_
        refine lv_lconst (v := (1 : Int64)) (pc := 2792) hx hb dL_law_2792 (by decide) ?_
        refine lv_goto (tgt := 2797) (pc := 2793) hx hb dL_law_2793 (by decide) ?_
        exact b_L_law_2797 C hok hS K23 x0 x1 x2 x3 x4 (jL h471 x3 ((0 : Int32)).toNatClampNeg) (1 : Int64) h471 H locs cells slots ls hH hL (lv_sub hl [2, 3, 4, 5, 6] rfl) hrun
  · have hrun := ite_f hrun c_
    refine lv_iconst (v := (0 : Int32)) (pc := 2777) hx hb dL_law_2777 (by decide) ?_
    exact V_lawret (pc := 2778) C hH hL hok hrun dL_law_2778

theorem b_L_law_2846 {rr : (Int32 ⊕ Ex) × Hp} {k23 : Unit → Nat → Nat → Nat → Int32 → Hp → Rt Int32} {b L : Nat} {xs : Nat → Int32} {et9 : List (Nat × Nat × Nat × Nat)} (C : CX p l room_1 s m #[Value.ref b] meth c D s.heap cL_law "MassclaimLaw" 9 ret et9 8192 104096) (hok : rr.1 = .inl 1) (hS : va_X b L xs s s.heap ∧ b < s.heap.size) (K23 : ∀ (x0 : Unit) (x1 : Nat) (x2 : Nat) (x3 : Nat) (x4 : Int32) (h : Hp) (H : Heap) (locs : List Loc) (cells slots : Nat) (ls : Array Slot), HP D s.heap h H → LO s.heap locs → lv_has ls 9 [(0, .ref b), (1, rv x1), (2, rv x2), (3, rv x3), (4, .int x4)] → k23 x0 x1 x2 x3 x4 h = some rr → W p l e room_1 s m #[Value.ref b] below meth c H locs cells slots (lw_Z below #[Value.ref b] s) (F0 m 23 ls [])) : ∀ (x0 : Unit) (x1 : Nat) (x2 : Nat) (x3 : Nat) (x4 : Int32) (h : Hp) (H : Heap) (locs : List Loc) (cells slots : Nat) (ls : Array Slot), HP D s.heap h H → LO s.heap locs → lv_has ls 9 [(0, .ref b), (1, rv x1), (2, rv x2), (3, rv x3), (4, .int x4)] → f_L_law_2846 L xs k23 x0 x1 x2 x3 x4 h = some rr → W p l e room_1 s m #[Value.ref b] below meth c H locs cells slots (lw_Z below #[Value.ref b] s) (F0 m 2846 ls []) := by
  obtain ⟨⟨hx, hb, hml, hown, hts⟩, -⟩ := id C
  have hl9 := C.2.1.2.2.1
  intro x0 x1 x2 x3 x4 h H locs cells slots ls hH hL hl hrun
  unfold f_L_law_2846 at hrun
  refine lv_goto (tgt := 3277) (pc := 2846) hx hb dL_law_2846 (by decide) ?_
  exact b_L_law_3277 C hok hS K23 x0 x1 x2 x3 x4 h H locs cells slots ls hH hL (lv_sub hl [0, 1, 2, 3, 4] rfl) hrun

theorem b_L_law_2806 {rr : (Int32 ⊕ Ex) × Hp} {k23 : Unit → Nat → Nat → Nat → Int32 → Hp → Rt Int32} {b L : Nat} {xs : Nat → Int32} {et9 : List (Nat × Nat × Nat × Nat)} (C : CX p l room_1 s m #[Value.ref b] meth c D s.heap cL_law "MassclaimLaw" 9 ret et9 8192 104096) (hok : rr.1 = .inl 1) (hS : va_X b L xs s s.heap ∧ b < s.heap.size) (K23 : ∀ (x0 : Unit) (x1 : Nat) (x2 : Nat) (x3 : Nat) (x4 : Int32) (h : Hp) (H : Heap) (locs : List Loc) (cells slots : Nat) (ls : Array Slot), HP D s.heap h H → LO s.heap locs → lv_has ls 9 [(0, .ref b), (1, rv x1), (2, rv x2), (3, rv x3), (4, .int x4)] → k23 x0 x1 x2 x3 x4 h = some rr → W p l e room_1 s m #[Value.ref b] below meth c H locs cells slots (lw_Z below #[Value.ref b] s) (F0 m 23 ls [])) : ∀ (x0 : Unit) (x1 : Nat) (x2 : Nat) (x3 : Nat) (x4 : Int32) (h : Hp) (H : Heap) (locs : List Loc) (cells slots : Nat) (ls : Array Slot), HP D s.heap h H → LO s.heap locs → lv_has ls 9 [(0, .ref b), (1, rv x1), (2, rv x2), (3, rv x3), (4, .int x4)] → f_L_law_2806 L xs k23 x0 x1 x2 x3 x4 h = some rr → W p l e room_1 s m #[Value.ref b] below meth c H locs cells slots (lw_Z below #[Value.ref b] s) (F0 m 2806 ls []) := by
  obtain ⟨⟨hx, hb, hml, hown, hts⟩, -⟩ := id C
  have hl9 := C.2.1.2.2.1
  intro x0 x1 x2 x3 x4 h H locs cells slots ls hH hL hl hrun
  unfold f_L_law_2806 at hrun
  refine V_aload_n (pc := 2806) hx hb dL_law_2806 rfl (lv_at hl 1 rfl) ?_
  refine V_aload_n (pc := 2807) hx hb dL_law_2807 rfl (lv_at hl 3 rfl) ?_
  refine V_bdN (pc := 2808) hL hrun (fun rr1 e1 => Z_runSH (rest := []) C hH (m_X0_pay hl9 e1) wSH_X0_284 rfl ⟨by decide, by decide⟩ rfl (Nat.le_of_ble_eq_true rfl) hl.1 dL_law_2808) (fun v474 h475 H locs cells slots hH hL hrun => ?_)
  refine lv_istore (i := 5) (lv' := [(5, .int v474), (0, .ref b), (1, rv x1), (2, rv x2), (3, rv x3), (4, .int x4)]) (pc := 2811) hx hb dL_law_2811 hl (by decide) rfl (fun ls hl => ?_)
  refine V_aload_n (pc := 2813) hx hb dL_law_2813 rfl (lv_at hl 3 rfl) ?_
  obtain ⟨c478, hrun⟩ := gd_some hrun
  refine V_bdN (pc := 2814) hL hrun (fun rr1 e1 => Z_runV (rest := []) C hH (m_X4_pay hl9 e1) wV_X0_286 c478 rfl (by decide) rfl rfl ⟨by decide, by decide⟩ rfl (Nat.le_of_ble_eq_true rfl) hl.1 dL_law_2814) (fun v476 h477 H locs cells slots hH hL hrun => ?_)
  refine lv_lstore (i := 6) (lv' := [(6, .long v476), (5, .int v474), (0, .ref b), (1, rv x1), (2, rv x2), (3, rv x3), (4, .int x4)]) (pc := 2817) hx hb dL_law_2817 hl (by decide) rfl (fun ls hl => ?_)
  refine V_aload_n (pc := 2819) hx hb dL_law_2819 rfl (lv_at hl 4 rfl) ?_
  obtain ⟨c481, hrun⟩ := gd_some hrun
  refine V_bdN (pc := 2820) hL hrun (fun rr1 e1 => Z_runV (rest := []) C hH (m_X4_thrown hl9 e1) wV_X0_170 c481 rfl (by decide) rfl rfl ⟨by decide, by decide⟩ rfl (Nat.le_of_ble_eq_true rfl) hl.1 dL_law_2820) (fun v479 h480 H locs cells slots hH hL hrun => ?_)
  refine lv_iload (pc := 2823) hx hb dL_law_2823 (lv_at hl 1 rfl) ?_
  refine lv_icmp_eq (tgt := 2830) (pc := 2825) hx hb dL_law_2825 (by decide) (fun c_ => ?_) (fun c_ => ?_)
  · have hrun := ite_t hrun c_
    refine lv_iload (pc := 2830) hx hb dL_law_2830 (lv_at hl 1 rfl) ?_
    refine lv_if_ne (tgt := 2846) (pc := 2832) hx hb dL_law_2832 (by decide) (fun c_ => ?_) (fun c_ => ?_)
    · have hrun := ite_f hrun c_
      exact b_L_law_2846 C hok hS K23 x0 x1 x2 x3 x4 h480 H locs cells slots ls hH hL (lv_sub hl [2, 3, 4, 5, 6] rfl) hrun
    · have hrun := ite_t hrun c_
      refine V_aload_n (pc := 2835) hx hb dL_law_2835 rfl (lv_at hl 5 rfl) ?_
      refine lv_iconst (v := (0 : Int32)) (pc := 2836) hx hb dL_law_2836 (by decide) ?_
      obtain ⟨c482, hrun⟩ := gd_some hrun
      refine V_lald (pc := 2837) C hH dL_law_2837 c482 ?_
      refine lv_lload (pc := 2838) hx hb dL_law_2838 (lv_at hl 0 rfl) ?_
      refine V_lcmp_eq (tgt := 2846) (pc := 2840) hx hb dL_law_2840 dL_law_2841 (by decide) (fun c_ => ?_) (fun c_ => ?_)
      · have hrun := ite_t hrun c_
        exact b_L_law_2846 C hok hS K23 x0 x1 x2 x3 x4 h480 H locs cells slots ls hH hL (lv_sub hl [2, 3, 4, 5, 6] rfl) hrun
      · have hrun := ite_f hrun c_
        refine lv_iconst (v := (0 : Int32)) (pc := 2844) hx hb dL_law_2844 (by decide) ?_
        exact V_lawret (pc := 2845) C hH hL hok hrun dL_law_2845
  · have hrun := ite_f hrun c_
    refine lv_iconst (v := (0 : Int32)) (pc := 2828) hx hb dL_law_2828 (by decide) ?_
    exact V_lawret (pc := 2829) C hH hL hok hrun dL_law_2829

theorem b_L_law_2942 {rr : (Int32 ⊕ Ex) × Hp} {k23 : Unit → Nat → Nat → Nat → Int32 → Hp → Rt Int32} {b L : Nat} {xs : Nat → Int32} {et9 : List (Nat × Nat × Nat × Nat)} (C : CX p l room_1 s m #[Value.ref b] meth c D s.heap cL_law "MassclaimLaw" 9 ret et9 8192 104096) (hok : rr.1 = .inl 1) (hS : va_X b L xs s s.heap ∧ b < s.heap.size) (K23 : ∀ (x0 : Unit) (x1 : Nat) (x2 : Nat) (x3 : Nat) (x4 : Int32) (h : Hp) (H : Heap) (locs : List Loc) (cells slots : Nat) (ls : Array Slot), HP D s.heap h H → LO s.heap locs → lv_has ls 9 [(0, .ref b), (1, rv x1), (2, rv x2), (3, rv x3), (4, .int x4)] → k23 x0 x1 x2 x3 x4 h = some rr → W p l e room_1 s m #[Value.ref b] below meth c H locs cells slots (lw_Z below #[Value.ref b] s) (F0 m 23 ls [])) : ∀ (x0 : Unit) (x1 : Nat) (x2 : Nat) (x3 : Nat) (x4 : Int32) (h : Hp) (H : Heap) (locs : List Loc) (cells slots : Nat) (ls : Array Slot), HP D s.heap h H → LO s.heap locs → lv_has ls 9 [(0, .ref b), (1, rv x1), (2, rv x2), (3, rv x3), (4, .int x4)] → f_L_law_2942 L xs k23 x0 x1 x2 x3 x4 h = some rr → W p l e room_1 s m #[Value.ref b] below meth c H locs cells slots (lw_Z below #[Value.ref b] s) (F0 m 2942 ls []) := by
  obtain ⟨⟨hx, hb, hml, hown, hts⟩, -⟩ := id C
  have hl9 := C.2.1.2.2.1
  intro x0 x1 x2 x3 x4 h H locs cells slots ls hH hL hl hrun
  unfold f_L_law_2942 at hrun
  refine lv_goto (tgt := 3277) (pc := 2942) hx hb dL_law_2942 (by decide) ?_
  exact b_L_law_3277 C hok hS K23 x0 x1 x2 x3 x4 h H locs cells slots ls hH hL (lv_sub hl [0, 1, 2, 3, 4] rfl) hrun

theorem b_L_law_2909 {rr : (Int32 ⊕ Ex) × Hp} {k23 : Unit → Nat → Nat → Nat → Int32 → Hp → Rt Int32} {b L : Nat} {xs : Nat → Int32} {et9 : List (Nat × Nat × Nat × Nat)} (C : CX p l room_1 s m #[Value.ref b] meth c D s.heap cL_law "MassclaimLaw" 9 ret et9 8192 104096) (hok : rr.1 = .inl 1) (hS : va_X b L xs s s.heap ∧ b < s.heap.size) (K23 : ∀ (x0 : Unit) (x1 : Nat) (x2 : Nat) (x3 : Nat) (x4 : Int32) (h : Hp) (H : Heap) (locs : List Loc) (cells slots : Nat) (ls : Array Slot), HP D s.heap h H → LO s.heap locs → lv_has ls 9 [(0, .ref b), (1, rv x1), (2, rv x2), (3, rv x3), (4, .int x4)] → k23 x0 x1 x2 x3 x4 h = some rr → W p l e room_1 s m #[Value.ref b] below meth c H locs cells slots (lw_Z below #[Value.ref b] s) (F0 m 23 ls [])) : ∀ (x0 : Unit) (x1 : Nat) (x2 : Nat) (x3 : Nat) (x4 : Int32) (x5 : Int32) (y0 : Nat) (y1 : Int32) (y2 : Int32) (y3 : Int32) (h : Hp) (H : Heap) (locs : List Loc) (cells slots : Nat) (ls : Array Slot), HP D s.heap h H → LO s.heap locs → lv_has ls 9 [(0, .ref b), (1, rv x1), (2, rv x2), (3, rv x3), (4, .int x4), (5, .int x5)] → f_L_law_2909 L xs k23 x0 x1 x2 x3 x4 x5 y0 y1 y2 y3 h = some rr → W p l e room_1 s m #[Value.ref b] below meth c H locs cells slots (lw_Z below #[Value.ref b] s) (F0 m 2909 ls [.int y3, .int y2, .int y1, rv y0]) := by
  obtain ⟨⟨hx, hb, hml, hown, hts⟩, -⟩ := id C
  have hl9 := C.2.1.2.2.1
  intro x0 x1 x2 x3 x4 x5 y0 y1 y2 y3 h H locs cells slots ls hH hL hl hrun
  unfold f_L_law_2909 at hrun
  obtain ⟨c485, hrun⟩ := gd_some hrun
  refine V_bdN (pc := 2909) hL hrun (fun rr1 e1 => Z_runV (rest := []) C hH (m_X4_lien hl9 e1) wV_X0_289 c485 rfl (by decide) rfl rfl ⟨by decide, by decide⟩ rfl (Nat.le_of_ble_eq_true rfl) hl.1 dL_law_2909) (fun v483 h484 H locs cells slots hH hL hrun => ?_)
  refine lv_istore (i := 6) (lv' := [(6, .int v483), (0, .ref b), (1, rv x1), (2, rv x2), (3, rv x3), (4, .int x4), (5, .int x5)]) (pc := 2912) hx hb dL_law_2912 hl (by decide) rfl (fun ls hl => ?_)
  refine V_aload_n (pc := 2914) hx hb dL_law_2914 rfl (lv_at hl 3 rfl) ?_
  obtain ⟨c488, hrun⟩ := gd_some hrun
  refine V_bdN (pc := 2915) hL hrun (fun rr1 e1 => Z_runV (rest := []) C hH (m_X4_thrown hl9 e1) wV_X0_170 c488 rfl (by decide) rfl rfl ⟨by decide, by decide⟩ rfl (Nat.le_of_ble_eq_true rfl) hl.1 dL_law_2915) (fun v486 h487 H locs cells slots hH hL hrun => ?_)
  refine lv_iload (pc := 2918) hx hb dL_law_2918 (lv_at hl 6 rfl) ?_
  refine lv_icmp_eq (tgt := 2925) (pc := 2920) hx hb dL_law_2920 (by decide) (fun c_ => ?_) (fun c_ => ?_)
  · have hrun := ite_t hrun c_
    refine lv_iload (pc := 2925) hx hb dL_law_2925 (lv_at hl 6 rfl) ?_
    refine lv_if_ne (tgt := 2942) (pc := 2927) hx hb dL_law_2927 (by decide) (fun c_ => ?_) (fun c_ => ?_)
    · have hrun := ite_f hrun c_
      exact b_L_law_2942 C hok hS K23 x0 x1 x2 x3 x4 h487 H locs cells slots ls hH hL (lv_sub hl [1, 2, 3, 4, 5] rfl) hrun
    · have hrun := ite_t hrun c_
      refine V_aload_n (pc := 2930) hx hb dL_law_2930 rfl (lv_at hl 4 rfl) ?_
      refine lv_iconst (v := (0 : Int32)) (pc := 2931) hx hb dL_law_2931 (by decide) ?_
      obtain ⟨c489, hrun⟩ := gd_some hrun
      refine V_lald (pc := 2932) C hH dL_law_2932 c489 ?_
      refine lv_iload (pc := 2933) hx hb dL_law_2933 (lv_at hl 0 rfl) ?_
      refine lv_i2l (pc := 2935) hx hb dL_law_2935 rfl ?_
      refine V_lcmp_eq (tgt := 2942) (pc := 2936) hx hb dL_law_2936 dL_law_2937 (by decide) (fun c_ => ?_) (fun c_ => ?_)
      · have hrun := ite_t hrun c_
        exact b_L_law_2942 C hok hS K23 x0 x1 x2 x3 x4 h487 H locs cells slots ls hH hL (lv_sub hl [1, 2, 3, 4, 5] rfl) hrun
      · have hrun := ite_f hrun c_
        refine lv_iconst (v := (0 : Int32)) (pc := 2940) hx hb dL_law_2940 (by decide) ?_
        exact V_lawret (pc := 2941) C hH hL hok hrun dL_law_2941
  · have hrun := ite_f hrun c_
    refine lv_iconst (v := (0 : Int32)) (pc := 2923) hx hb dL_law_2923 (by decide) ?_
    exact V_lawret (pc := 2924) C hH hL hok hrun dL_law_2924

theorem b_L_law_2876 {rr : (Int32 ⊕ Ex) × Hp} {k23 : Unit → Nat → Nat → Nat → Int32 → Hp → Rt Int32} {b L : Nat} {xs : Nat → Int32} {et9 : List (Nat × Nat × Nat × Nat)} (C : CX p l room_1 s m #[Value.ref b] meth c D s.heap cL_law "MassclaimLaw" 9 ret et9 8192 104096) (hok : rr.1 = .inl 1) (hS : va_X b L xs s s.heap ∧ b < s.heap.size) (K23 : ∀ (x0 : Unit) (x1 : Nat) (x2 : Nat) (x3 : Nat) (x4 : Int32) (h : Hp) (H : Heap) (locs : List Loc) (cells slots : Nat) (ls : Array Slot), HP D s.heap h H → LO s.heap locs → lv_has ls 9 [(0, .ref b), (1, rv x1), (2, rv x2), (3, rv x3), (4, .int x4)] → k23 x0 x1 x2 x3 x4 h = some rr → W p l e room_1 s m #[Value.ref b] below meth c H locs cells slots (lw_Z below #[Value.ref b] s) (F0 m 23 ls [])) : ∀ (x0 : Unit) (x1 : Nat) (x2 : Nat) (x3 : Nat) (x4 : Int32) (y0 : Nat) (y1 : Int32) (y2 : Int32) (y3 : Int32) (h : Hp) (H : Heap) (locs : List Loc) (cells slots : Nat) (ls : Array Slot), HP D s.heap h H → LO s.heap locs → lv_has ls 9 [(0, .ref b), (1, rv x1), (2, rv x2), (3, rv x3), (4, .int x4)] → f_L_law_2876 L xs k23 x0 x1 x2 x3 x4 y0 y1 y2 y3 h = some rr → W p l e room_1 s m #[Value.ref b] below meth c H locs cells slots (lw_Z below #[Value.ref b] s) (F0 m 2876 ls [.int y3, .int y2, .int y1, rv y0]) := by
  obtain ⟨⟨hx, hb, hml, hown, hts⟩, -⟩ := id C
  have hl9 := C.2.1.2.2.1
  intro x0 x1 x2 x3 x4 y0 y1 y2 y3 h H locs cells slots ls hH hL hl hrun
  unfold f_L_law_2876 at hrun
  refine V_aload_n (pc := 2876) hx hb dL_law_2876 rfl (lv_at hl 3 rfl) ?_
  refine V_bdN (pc := 2877) hL hrun (fun rr1 e1 => Z_runSH (rest := []) C hH (m_X0_lien hl9 e1) wSH_X0_287 rfl ⟨by decide, by decide⟩ rfl (Nat.le_of_ble_eq_true rfl) hl.1 dL_law_2877) (fun v490 h491 H locs cells slots hH hL hrun => ?_)
  refine lv_istore (i := 5) (lv' := [(5, .int v490), (0, .ref b), (1, rv x1), (2, rv x2), (3, rv x3), (4, .int x4)]) (pc := 2880) hx hb dL_law_2880 hl (by decide) rfl (fun ls hl => ?_)
  refine V_aload_n (pc := 2882) hx hb dL_law_2882 rfl (lv_at hl 3 rfl) ?_
  refine lv_aload_n (pc := 2883) hx hb dL_law_2883 rfl (lv_at hl 1 rfl) ?_
  refine lv_iload (pc := 2884) hx hb dL_law_2884 (lv_at hl 5 rfl) ?_
  refine lv_iconst (v := (1 : Int32)) (pc := 2886) hx hb dL_law_2886 (by decide) ?_
  refine lv_iadd (pc := 2887) hx hb dL_law_2887 ?_
  obtain ⟨c492, hrun⟩ := gd_some hrun
  refine V_sld (pc := 2888) C hH hS dL_law_2888 c492 ?_
  refine lv_aload_n (pc := 2889) hx hb dL_law_2889 rfl (lv_at hl 1 rfl) ?_
  refine lv_iload (pc := 2890) hx hb dL_law_2890 (lv_at hl 5 rfl) ?_
  refine lv_iconst (v := (2 : Int32)) (pc := 2892) hx hb dL_law_2892 (by decide) ?_
  refine lv_iadd (pc := 2893) hx hb dL_law_2893 ?_
  obtain ⟨c493, hrun⟩ := gd_some hrun
  refine V_sld (pc := 2894) C hH hS dL_law_2894 c493 ?_
  refine lv_aload_n (pc := 2895) hx hb dL_law_2895 rfl (lv_at hl 1 rfl) ?_
  refine lv_iload (pc := 2896) hx hb dL_law_2896 (lv_at hl 5 rfl) ?_
  refine lv_iconst (v := (3 : Int32)) (pc := 2898) hx hb dL_law_2898 (by decide) ?_
  refine lv_iadd (pc := 2899) hx hb dL_law_2899 ?_
  obtain ⟨c494, hrun⟩ := gd_some hrun
  refine V_sld (pc := 2900) C hH hS dL_law_2900 c494 ?_
  refine lv_if_eq (tgt := 2908) (pc := 2901) hx hb dL_law_2901 (by decide) (fun c_ => ?_) (fun c_ => ?_)
  · have hrun := ite_t hrun c_
    refine lv_iconst (v := (0 : Int32)) (pc := 2908) hx hb dL_law_2908 (by decide) ?_
    exact b_L_law_2909 C hok hS K23 x0 x1 x2 x3 x4 v490 x2 (xs ((x4 + (1 : Int32))).toNatClampNeg) (xs ((x4 + (2 : Int32))).toNatClampNeg) (0 : Int32) h491 H locs cells slots ls hH hL (lv_sub hl [1, 2, 3, 4, 5, 0] rfl) hrun
  · have hrun := ite_f hrun c_
    refine lv_iconst (v := (1 : Int32)) (pc := 2904) hx hb dL_law_2904 (by decide) ?_
    refine lv_goto (tgt := 2909) (pc := 2905) hx hb dL_law_2905 (by decide) ?_
    exact b_L_law_2909 C hok hS K23 x0 x1 x2 x3 x4 v490 x2 (xs ((x4 + (1 : Int32))).toNatClampNeg) (xs ((x4 + (2 : Int32))).toNatClampNeg) (1 : Int32) h491 H locs cells slots ls hH hL (lv_sub hl [1, 2, 3, 4, 5, 0] rfl) hrun

theorem b_L_law_2849 {rr : (Int32 ⊕ Ex) × Hp} {k23 : Unit → Nat → Nat → Nat → Int32 → Hp → Rt Int32} {b L : Nat} {xs : Nat → Int32} {et9 : List (Nat × Nat × Nat × Nat)} (C : CX p l room_1 s m #[Value.ref b] meth c D s.heap cL_law "MassclaimLaw" 9 ret et9 8192 104096) (hok : rr.1 = .inl 1) (hS : va_X b L xs s s.heap ∧ b < s.heap.size) (K23 : ∀ (x0 : Unit) (x1 : Nat) (x2 : Nat) (x3 : Nat) (x4 : Int32) (h : Hp) (H : Heap) (locs : List Loc) (cells slots : Nat) (ls : Array Slot), HP D s.heap h H → LO s.heap locs → lv_has ls 9 [(0, .ref b), (1, rv x1), (2, rv x2), (3, rv x3), (4, .int x4)] → k23 x0 x1 x2 x3 x4 h = some rr → W p l e room_1 s m #[Value.ref b] below meth c H locs cells slots (lw_Z below #[Value.ref b] s) (F0 m 23 ls [])) : ∀ (x0 : Unit) (x1 : Nat) (x2 : Nat) (x3 : Nat) (x4 : Int32) (h : Hp) (H : Heap) (locs : List Loc) (cells slots : Nat) (ls : Array Slot), HP D s.heap h H → LO s.heap locs → lv_has ls 9 [(0, .ref b), (1, rv x1), (2, rv x2), (3, rv x3), (4, .int x4)] → f_L_law_2849 L xs k23 x0 x1 x2 x3 x4 h = some rr → W p l e room_1 s m #[Value.ref b] below meth c H locs cells slots (lw_Z below #[Value.ref b] s) (F0 m 2849 ls []) := by
  obtain ⟨⟨hx, hb, hml, hown, hts⟩, -⟩ := id C
  have hl9 := C.2.1.2.2.1
  intro x0 x1 x2 x3 x4 h H locs cells slots ls hH hL hl hrun
  unfold f_L_law_2849 at hrun
  refine V_aload_n (pc := 2849) hx hb dL_law_2849 rfl (lv_at hl 1 rfl) ?_
  refine lv_aload_n (pc := 2850) hx hb dL_law_2850 rfl (lv_at hl 0 rfl) ?_
  refine lv_iload (pc := 2851) hx hb dL_law_2851 (lv_at hl 4 rfl) ?_
  refine lv_iconst (v := (1 : Int32)) (pc := 2853) hx hb dL_law_2853 (by decide) ?_
  refine lv_iadd (pc := 2854) hx hb dL_law_2854 ?_
  obtain ⟨c495, hrun⟩ := gd_some hrun
  refine V_sld (pc := 2855) C hH hS dL_law_2855 c495 ?_
  refine lv_aload_n (pc := 2856) hx hb dL_law_2856 rfl (lv_at hl 0 rfl) ?_
  refine lv_iload (pc := 2857) hx hb dL_law_2857 (lv_at hl 4 rfl) ?_
  refine lv_iconst (v := (2 : Int32)) (pc := 2859) hx hb dL_law_2859 (by decide) ?_
  refine lv_iadd (pc := 2860) hx hb dL_law_2860 ?_
  obtain ⟨c496, hrun⟩ := gd_some hrun
  refine V_sld (pc := 2861) C hH hS dL_law_2861 c496 ?_
  refine lv_aload_n (pc := 2862) hx hb dL_law_2862 rfl (lv_at hl 0 rfl) ?_
  refine lv_iload (pc := 2863) hx hb dL_law_2863 (lv_at hl 4 rfl) ?_
  refine lv_iconst (v := (3 : Int32)) (pc := 2865) hx hb dL_law_2865 (by decide) ?_
  refine lv_iadd (pc := 2866) hx hb dL_law_2866 ?_
  obtain ⟨c497, hrun⟩ := gd_some hrun
  refine V_sld (pc := 2867) C hH hS dL_law_2867 c497 ?_
  refine lv_if_eq (tgt := 2875) (pc := 2868) hx hb dL_law_2868 (by decide) (fun c_ => ?_) (fun c_ => ?_)
  · have hrun := ite_t hrun c_
    refine lv_iconst (v := (0 : Int32)) (pc := 2875) hx hb dL_law_2875 (by decide) ?_
    exact b_L_law_2876 C hok hS K23 x0 x1 x2 x3 x4 x1 (xs ((x4 + (1 : Int32))).toNatClampNeg) (xs ((x4 + (2 : Int32))).toNatClampNeg) (0 : Int32) h H locs cells slots ls hH hL (lv_sub hl [0, 1, 2, 3, 4] rfl) hrun
  · have hrun := ite_f hrun c_
    refine lv_iconst (v := (1 : Int32)) (pc := 2871) hx hb dL_law_2871 (by decide) ?_
    refine lv_goto (tgt := 2876) (pc := 2872) hx hb dL_law_2872 (by decide) ?_
    exact b_L_law_2876 C hok hS K23 x0 x1 x2 x3 x4 x1 (xs ((x4 + (1 : Int32))).toNatClampNeg) (xs ((x4 + (2 : Int32))).toNatClampNeg) (1 : Int32) h H locs cells slots ls hH hL (lv_sub hl [0, 1, 2, 3, 4] rfl) hrun

theorem b_L_law_2998 {rr : (Int32 ⊕ Ex) × Hp} {k23 : Unit → Nat → Nat → Nat → Int32 → Hp → Rt Int32} {b L : Nat} {xs : Nat → Int32} {et9 : List (Nat × Nat × Nat × Nat)} (C : CX p l room_1 s m #[Value.ref b] meth c D s.heap cL_law "MassclaimLaw" 9 ret et9 8192 104096) (hok : rr.1 = .inl 1) (hS : va_X b L xs s s.heap ∧ b < s.heap.size) (K23 : ∀ (x0 : Unit) (x1 : Nat) (x2 : Nat) (x3 : Nat) (x4 : Int32) (h : Hp) (H : Heap) (locs : List Loc) (cells slots : Nat) (ls : Array Slot), HP D s.heap h H → LO s.heap locs → lv_has ls 9 [(0, .ref b), (1, rv x1), (2, rv x2), (3, rv x3), (4, .int x4)] → k23 x0 x1 x2 x3 x4 h = some rr → W p l e room_1 s m #[Value.ref b] below meth c H locs cells slots (lw_Z below #[Value.ref b] s) (F0 m 23 ls [])) : ∀ (x0 : Unit) (x1 : Nat) (x2 : Nat) (x3 : Nat) (x4 : Int32) (h : Hp) (H : Heap) (locs : List Loc) (cells slots : Nat) (ls : Array Slot), HP D s.heap h H → LO s.heap locs → lv_has ls 9 [(0, .ref b), (1, rv x1), (2, rv x2), (3, rv x3), (4, .int x4)] → f_L_law_2998 L xs k23 x0 x1 x2 x3 x4 h = some rr → W p l e room_1 s m #[Value.ref b] below meth c H locs cells slots (lw_Z below #[Value.ref b] s) (F0 m 2998 ls []) := by
  obtain ⟨⟨hx, hb, hml, hown, hts⟩, -⟩ := id C
  have hl9 := C.2.1.2.2.1
  intro x0 x1 x2 x3 x4 h H locs cells slots ls hH hL hl hrun
  unfold f_L_law_2998 at hrun
  refine lv_goto (tgt := 3277) (pc := 2998) hx hb dL_law_2998 (by decide) ?_
  exact b_L_law_3277 C hok hS K23 x0 x1 x2 x3 x4 h H locs cells slots ls hH hL (lv_sub hl [0, 1, 2, 3, 4] rfl) hrun

theorem b_L_law_2945 {rr : (Int32 ⊕ Ex) × Hp} {k23 : Unit → Nat → Nat → Nat → Int32 → Hp → Rt Int32} {b L : Nat} {xs : Nat → Int32} {et9 : List (Nat × Nat × Nat × Nat)} (C : CX p l room_1 s m #[Value.ref b] meth c D s.heap cL_law "MassclaimLaw" 9 ret et9 8192 104096) (hok : rr.1 = .inl 1) (hS : va_X b L xs s s.heap ∧ b < s.heap.size) (K23 : ∀ (x0 : Unit) (x1 : Nat) (x2 : Nat) (x3 : Nat) (x4 : Int32) (h : Hp) (H : Heap) (locs : List Loc) (cells slots : Nat) (ls : Array Slot), HP D s.heap h H → LO s.heap locs → lv_has ls 9 [(0, .ref b), (1, rv x1), (2, rv x2), (3, rv x3), (4, .int x4)] → k23 x0 x1 x2 x3 x4 h = some rr → W p l e room_1 s m #[Value.ref b] below meth c H locs cells slots (lw_Z below #[Value.ref b] s) (F0 m 23 ls [])) : ∀ (x0 : Unit) (x1 : Nat) (x2 : Nat) (x3 : Nat) (x4 : Int32) (h : Hp) (H : Heap) (locs : List Loc) (cells slots : Nat) (ls : Array Slot), HP D s.heap h H → LO s.heap locs → lv_has ls 9 [(0, .ref b), (1, rv x1), (2, rv x2), (3, rv x3), (4, .int x4)] → f_L_law_2945 L xs k23 x0 x1 x2 x3 x4 h = some rr → W p l e room_1 s m #[Value.ref b] below meth c H locs cells slots (lw_Z below #[Value.ref b] s) (F0 m 2945 ls []) := by
  obtain ⟨⟨hx, hb, hml, hown, hts⟩, -⟩ := id C
  have hl9 := C.2.1.2.2.1
  intro x0 x1 x2 x3 x4 h H locs cells slots ls hH hL hl hrun
  unfold f_L_law_2945 at hrun
  refine V_aload_n (pc := 2945) hx hb dL_law_2945 rfl (lv_at hl 1 rfl) ?_
  refine lv_aload_n (pc := 2946) hx hb dL_law_2946 rfl (lv_at hl 0 rfl) ?_
  refine lv_iload (pc := 2947) hx hb dL_law_2947 (lv_at hl 4 rfl) ?_
  refine lv_iconst (v := (1 : Int32)) (pc := 2949) hx hb dL_law_2949 (by decide) ?_
  refine lv_iadd (pc := 2950) hx hb dL_law_2950 ?_
  obtain ⟨c498, hrun⟩ := gd_some hrun
  refine V_sld (pc := 2951) C hH hS dL_law_2951 c498 ?_
  refine V_aload_n (pc := 2952) hx hb dL_law_2952 rfl (lv_at hl 3 rfl) ?_
  refine V_bdN (pc := 2953) hL hrun (fun rr1 e1 => Z_runSH (rest := []) C hH (m_X0_waive hl9 e1) wSH_X0_290 rfl ⟨by decide, by decide⟩ rfl (Nat.le_of_ble_eq_true rfl) hl.1 dL_law_2953) (fun v499 h500 H locs cells slots hH hL hrun => ?_)
  refine lv_istore (i := 5) (lv' := [(5, .int v499), (0, .ref b), (1, rv x1), (2, rv x2), (3, rv x3), (4, .int x4)]) (pc := 2956) hx hb dL_law_2956 hl (by decide) rfl (fun ls hl => ?_)
  refine V_aload_n (pc := 2958) hx hb dL_law_2958 rfl (lv_at hl 3 rfl) ?_
  refine lv_aload_n (pc := 2959) hx hb dL_law_2959 rfl (lv_at hl 1 rfl) ?_
  refine lv_iload (pc := 2960) hx hb dL_law_2960 (lv_at hl 5 rfl) ?_
  refine lv_iconst (v := (1 : Int32)) (pc := 2962) hx hb dL_law_2962 (by decide) ?_
  refine lv_iadd (pc := 2963) hx hb dL_law_2963 ?_
  obtain ⟨c501, hrun⟩ := gd_some hrun
  refine V_sld (pc := 2964) C hH hS dL_law_2964 c501 ?_
  obtain ⟨c504, hrun⟩ := gd_some hrun
  refine V_bdN (pc := 2965) hL hrun (fun rr1 e1 => Z_runV (rest := []) C hH (m_X4_waive hl9 e1) wV_X0_292 c504 rfl (by decide) rfl rfl ⟨by decide, by decide⟩ rfl (Nat.le_of_ble_eq_true rfl) hl.1 dL_law_2965) (fun v502 h503 H locs cells slots hH hL hrun => ?_)
  refine lv_istore (i := 6) (lv' := [(6, .int v502), (5, .int v499), (0, .ref b), (1, rv x1), (2, rv x2), (3, rv x3), (4, .int x4)]) (pc := 2968) hx hb dL_law_2968 hl (by decide) rfl (fun ls hl => ?_)
  refine V_aload_n (pc := 2970) hx hb dL_law_2970 rfl (lv_at hl 4 rfl) ?_
  obtain ⟨c507, hrun⟩ := gd_some hrun
  refine V_bdN (pc := 2971) hL hrun (fun rr1 e1 => Z_runV (rest := []) C hH (m_X4_thrown hl9 e1) wV_X0_170 c507 rfl (by decide) rfl rfl ⟨by decide, by decide⟩ rfl (Nat.le_of_ble_eq_true rfl) hl.1 dL_law_2971) (fun v505 h506 H locs cells slots hH hL hrun => ?_)
  refine lv_iload (pc := 2974) hx hb dL_law_2974 (lv_at hl 1 rfl) ?_
  refine lv_icmp_eq (tgt := 2981) (pc := 2976) hx hb dL_law_2976 (by decide) (fun c_ => ?_) (fun c_ => ?_)
  · have hrun := ite_t hrun c_
    refine lv_iload (pc := 2981) hx hb dL_law_2981 (lv_at hl 1 rfl) ?_
    refine lv_if_ne (tgt := 2998) (pc := 2983) hx hb dL_law_2983 (by decide) (fun c_ => ?_) (fun c_ => ?_)
    · have hrun := ite_f hrun c_
      exact b_L_law_2998 C hok hS K23 x0 x1 x2 x3 x4 h506 H locs cells slots ls hH hL (lv_sub hl [2, 3, 4, 5, 6] rfl) hrun
    · have hrun := ite_t hrun c_
      refine V_aload_n (pc := 2986) hx hb dL_law_2986 rfl (lv_at hl 5 rfl) ?_
      refine lv_iconst (v := (0 : Int32)) (pc := 2987) hx hb dL_law_2987 (by decide) ?_
      obtain ⟨c508, hrun⟩ := gd_some hrun
      refine V_lald (pc := 2988) C hH dL_law_2988 c508 ?_
      refine lv_iload (pc := 2989) hx hb dL_law_2989 (lv_at hl 0 rfl) ?_
      refine lv_i2l (pc := 2991) hx hb dL_law_2991 rfl ?_
      refine V_lcmp_eq (tgt := 2998) (pc := 2992) hx hb dL_law_2992 dL_law_2993 (by decide) (fun c_ => ?_) (fun c_ => ?_)
      · have hrun := ite_t hrun c_
        exact b_L_law_2998 C hok hS K23 x0 x1 x2 x3 x4 h506 H locs cells slots ls hH hL (lv_sub hl [2, 3, 4, 5, 6] rfl) hrun
      · have hrun := ite_f hrun c_
        refine lv_iconst (v := (0 : Int32)) (pc := 2996) hx hb dL_law_2996 (by decide) ?_
        exact V_lawret (pc := 2997) C hH hL hok hrun dL_law_2997
  · have hrun := ite_f hrun c_
    refine lv_iconst (v := (0 : Int32)) (pc := 2979) hx hb dL_law_2979 (by decide) ?_
    exact V_lawret (pc := 2980) C hH hL hok hrun dL_law_2980

theorem b_L_law_3041 {rr : (Int32 ⊕ Ex) × Hp} {k23 : Unit → Nat → Nat → Nat → Int32 → Hp → Rt Int32} {b L : Nat} {xs : Nat → Int32} {et9 : List (Nat × Nat × Nat × Nat)} (C : CX p l room_1 s m #[Value.ref b] meth c D s.heap cL_law "MassclaimLaw" 9 ret et9 8192 104096) (hok : rr.1 = .inl 1) (hS : va_X b L xs s s.heap ∧ b < s.heap.size) (K23 : ∀ (x0 : Unit) (x1 : Nat) (x2 : Nat) (x3 : Nat) (x4 : Int32) (h : Hp) (H : Heap) (locs : List Loc) (cells slots : Nat) (ls : Array Slot), HP D s.heap h H → LO s.heap locs → lv_has ls 9 [(0, .ref b), (1, rv x1), (2, rv x2), (3, rv x3), (4, .int x4)] → k23 x0 x1 x2 x3 x4 h = some rr → W p l e room_1 s m #[Value.ref b] below meth c H locs cells slots (lw_Z below #[Value.ref b] s) (F0 m 23 ls [])) : ∀ (x0 : Unit) (x1 : Nat) (x2 : Nat) (x3 : Nat) (x4 : Int32) (h : Hp) (H : Heap) (locs : List Loc) (cells slots : Nat) (ls : Array Slot), HP D s.heap h H → LO s.heap locs → lv_has ls 9 [(0, .ref b), (1, rv x1), (2, rv x2), (3, rv x3), (4, .int x4)] → f_L_law_3041 L xs k23 x0 x1 x2 x3 x4 h = some rr → W p l e room_1 s m #[Value.ref b] below meth c H locs cells slots (lw_Z below #[Value.ref b] s) (F0 m 3041 ls []) := by
  obtain ⟨⟨hx, hb, hml, hown, hts⟩, -⟩ := id C
  have hl9 := C.2.1.2.2.1
  intro x0 x1 x2 x3 x4 h H locs cells slots ls hH hL hl hrun
  unfold f_L_law_3041 at hrun
  refine lv_goto (tgt := 3277) (pc := 3041) hx hb dL_law_3041 (by decide) ?_
  exact b_L_law_3277 C hok hS K23 x0 x1 x2 x3 x4 h H locs cells slots ls hH hL (lv_sub hl [0, 1, 2, 3, 4] rfl) hrun

theorem b_L_law_3001 {rr : (Int32 ⊕ Ex) × Hp} {k23 : Unit → Nat → Nat → Nat → Int32 → Hp → Rt Int32} {b L : Nat} {xs : Nat → Int32} {et9 : List (Nat × Nat × Nat × Nat)} (C : CX p l room_1 s m #[Value.ref b] meth c D s.heap cL_law "MassclaimLaw" 9 ret et9 8192 104096) (hok : rr.1 = .inl 1) (hS : va_X b L xs s s.heap ∧ b < s.heap.size) (K23 : ∀ (x0 : Unit) (x1 : Nat) (x2 : Nat) (x3 : Nat) (x4 : Int32) (h : Hp) (H : Heap) (locs : List Loc) (cells slots : Nat) (ls : Array Slot), HP D s.heap h H → LO s.heap locs → lv_has ls 9 [(0, .ref b), (1, rv x1), (2, rv x2), (3, rv x3), (4, .int x4)] → k23 x0 x1 x2 x3 x4 h = some rr → W p l e room_1 s m #[Value.ref b] below meth c H locs cells slots (lw_Z below #[Value.ref b] s) (F0 m 23 ls [])) : ∀ (x0 : Unit) (x1 : Nat) (x2 : Nat) (x3 : Nat) (x4 : Int32) (h : Hp) (H : Heap) (locs : List Loc) (cells slots : Nat) (ls : Array Slot), HP D s.heap h H → LO s.heap locs → lv_has ls 9 [(0, .ref b), (1, rv x1), (2, rv x2), (3, rv x3), (4, .int x4)] → f_L_law_3001 L xs k23 x0 x1 x2 x3 x4 h = some rr → W p l e room_1 s m #[Value.ref b] below meth c H locs cells slots (lw_Z below #[Value.ref b] s) (F0 m 3001 ls []) := by
  obtain ⟨⟨hx, hb, hml, hown, hts⟩, -⟩ := id C
  have hl9 := C.2.1.2.2.1
  intro x0 x1 x2 x3 x4 h H locs cells slots ls hH hL hl hrun
  unfold f_L_law_3001 at hrun
  refine V_aload_n (pc := 3001) hx hb dL_law_3001 rfl (lv_at hl 1 rfl) ?_
  refine V_aload_n (pc := 3002) hx hb dL_law_3002 rfl (lv_at hl 3 rfl) ?_
  refine V_bdN (pc := 3003) hL hrun (fun rr1 e1 => Z_runSH (rest := []) C hH (m_X0_end hl9 e1) wSH_X0_293 rfl ⟨by decide, by decide⟩ rfl (Nat.le_of_ble_eq_true rfl) hl.1 dL_law_3003) (fun v509 h510 H locs cells slots hH hL hrun => ?_)
  refine lv_istore (i := 5) (lv' := [(5, .int v509), (0, .ref b), (1, rv x1), (2, rv x2), (3, rv x3), (4, .int x4)]) (pc := 3006) hx hb dL_law_3006 hl (by decide) rfl (fun ls hl => ?_)
  refine V_aload_n (pc := 3008) hx hb dL_law_3008 rfl (lv_at hl 3 rfl) ?_
  obtain ⟨c513, hrun⟩ := gd_some hrun
  refine V_bdN (pc := 3009) hL hrun (fun rr1 e1 => Z_runV (rest := []) C hH (m_X4_end hl9 e1) wV_X0_295 c513 rfl (by decide) rfl rfl ⟨by decide, by decide⟩ rfl (Nat.le_of_ble_eq_true rfl) hl.1 dL_law_3009) (fun v511 h512 H locs cells slots hH hL hrun => ?_)
  refine lv_lstore (i := 6) (lv' := [(6, .long v511), (5, .int v509), (0, .ref b), (1, rv x1), (2, rv x2), (3, rv x3), (4, .int x4)]) (pc := 3012) hx hb dL_law_3012 hl (by decide) rfl (fun ls hl => ?_)
  refine V_aload_n (pc := 3014) hx hb dL_law_3014 rfl (lv_at hl 4 rfl) ?_
  obtain ⟨c516, hrun⟩ := gd_some hrun
  refine V_bdN (pc := 3015) hL hrun (fun rr1 e1 => Z_runV (rest := []) C hH (m_X4_thrown hl9 e1) wV_X0_170 c516 rfl (by decide) rfl rfl ⟨by decide, by decide⟩ rfl (Nat.le_of_ble_eq_true rfl) hl.1 dL_law_3015) (fun v514 h515 H locs cells slots hH hL hrun => ?_)
  refine lv_iload (pc := 3018) hx hb dL_law_3018 (lv_at hl 1 rfl) ?_
  refine lv_icmp_eq (tgt := 3025) (pc := 3020) hx hb dL_law_3020 (by decide) (fun c_ => ?_) (fun c_ => ?_)
  · have hrun := ite_t hrun c_
    refine lv_iload (pc := 3025) hx hb dL_law_3025 (lv_at hl 1 rfl) ?_
    refine lv_if_ne (tgt := 3041) (pc := 3027) hx hb dL_law_3027 (by decide) (fun c_ => ?_) (fun c_ => ?_)
    · have hrun := ite_f hrun c_
      exact b_L_law_3041 C hok hS K23 x0 x1 x2 x3 x4 h515 H locs cells slots ls hH hL (lv_sub hl [2, 3, 4, 5, 6] rfl) hrun
    · have hrun := ite_t hrun c_
      refine V_aload_n (pc := 3030) hx hb dL_law_3030 rfl (lv_at hl 5 rfl) ?_
      refine lv_iconst (v := (0 : Int32)) (pc := 3031) hx hb dL_law_3031 (by decide) ?_
      obtain ⟨c517, hrun⟩ := gd_some hrun
      refine V_lald (pc := 3032) C hH dL_law_3032 c517 ?_
      refine lv_lload (pc := 3033) hx hb dL_law_3033 (lv_at hl 0 rfl) ?_
      refine V_lcmp_eq (tgt := 3041) (pc := 3035) hx hb dL_law_3035 dL_law_3036 (by decide) (fun c_ => ?_) (fun c_ => ?_)
      · have hrun := ite_t hrun c_
        exact b_L_law_3041 C hok hS K23 x0 x1 x2 x3 x4 h515 H locs cells slots ls hH hL (lv_sub hl [2, 3, 4, 5, 6] rfl) hrun
      · have hrun := ite_f hrun c_
        refine lv_iconst (v := (0 : Int32)) (pc := 3039) hx hb dL_law_3039 (by decide) ?_
        exact V_lawret (pc := 3040) C hH hL hok hrun dL_law_3040
  · have hrun := ite_f hrun c_
    refine lv_iconst (v := (0 : Int32)) (pc := 3023) hx hb dL_law_3023 (by decide) ?_
    exact V_lawret (pc := 3024) C hH hL hok hrun dL_law_3024

theorem b_L_law_3096 {rr : (Int32 ⊕ Ex) × Hp} {k23 : Unit → Nat → Nat → Nat → Int32 → Hp → Rt Int32} {b L : Nat} {xs : Nat → Int32} {et9 : List (Nat × Nat × Nat × Nat)} (C : CX p l room_1 s m #[Value.ref b] meth c D s.heap cL_law "MassclaimLaw" 9 ret et9 8192 104096) (hok : rr.1 = .inl 1) (hS : va_X b L xs s s.heap ∧ b < s.heap.size) (K23 : ∀ (x0 : Unit) (x1 : Nat) (x2 : Nat) (x3 : Nat) (x4 : Int32) (h : Hp) (H : Heap) (locs : List Loc) (cells slots : Nat) (ls : Array Slot), HP D s.heap h H → LO s.heap locs → lv_has ls 9 [(0, .ref b), (1, rv x1), (2, rv x2), (3, rv x3), (4, .int x4)] → k23 x0 x1 x2 x3 x4 h = some rr → W p l e room_1 s m #[Value.ref b] below meth c H locs cells slots (lw_Z below #[Value.ref b] s) (F0 m 23 ls [])) : ∀ (x0 : Unit) (x1 : Nat) (x2 : Nat) (x3 : Nat) (x4 : Int32) (h : Hp) (H : Heap) (locs : List Loc) (cells slots : Nat) (ls : Array Slot), HP D s.heap h H → LO s.heap locs → lv_has ls 9 [(0, .ref b), (1, rv x1), (2, rv x2), (3, rv x3), (4, .int x4)] → f_L_law_3096 L xs k23 x0 x1 x2 x3 x4 h = some rr → W p l e room_1 s m #[Value.ref b] below meth c H locs cells slots (lw_Z below #[Value.ref b] s) (F0 m 3096 ls []) := by
  obtain ⟨⟨hx, hb, hml, hown, hts⟩, -⟩ := id C
  have hl9 := C.2.1.2.2.1
  intro x0 x1 x2 x3 x4 h H locs cells slots ls hH hL hl hrun
  unfold f_L_law_3096 at hrun
  refine lv_goto (tgt := 3277) (pc := 3096) hx hb dL_law_3096 (by decide) ?_
  exact b_L_law_3277 C hok hS K23 x0 x1 x2 x3 x4 h H locs cells slots ls hH hL (lv_sub hl [0, 1, 2, 3, 4] rfl) hrun

theorem b_L_law_3044 {rr : (Int32 ⊕ Ex) × Hp} {k23 : Unit → Nat → Nat → Nat → Int32 → Hp → Rt Int32} {b L : Nat} {xs : Nat → Int32} {et9 : List (Nat × Nat × Nat × Nat)} (C : CX p l room_1 s m #[Value.ref b] meth c D s.heap cL_law "MassclaimLaw" 9 ret et9 8192 104096) (hok : rr.1 = .inl 1) (hS : va_X b L xs s s.heap ∧ b < s.heap.size) (K23 : ∀ (x0 : Unit) (x1 : Nat) (x2 : Nat) (x3 : Nat) (x4 : Int32) (h : Hp) (H : Heap) (locs : List Loc) (cells slots : Nat) (ls : Array Slot), HP D s.heap h H → LO s.heap locs → lv_has ls 9 [(0, .ref b), (1, rv x1), (2, rv x2), (3, rv x3), (4, .int x4)] → k23 x0 x1 x2 x3 x4 h = some rr → W p l e room_1 s m #[Value.ref b] below meth c H locs cells slots (lw_Z below #[Value.ref b] s) (F0 m 23 ls [])) : ∀ (x0 : Unit) (x1 : Nat) (x2 : Nat) (x3 : Nat) (x4 : Int32) (h : Hp) (H : Heap) (locs : List Loc) (cells slots : Nat) (ls : Array Slot), HP D s.heap h H → LO s.heap locs → lv_has ls 9 [(0, .ref b), (1, rv x1), (2, rv x2), (3, rv x3), (4, .int x4)] → f_L_law_3044 L xs k23 x0 x1 x2 x3 x4 h = some rr → W p l e room_1 s m #[Value.ref b] below meth c H locs cells slots (lw_Z below #[Value.ref b] s) (F0 m 3044 ls []) := by
  obtain ⟨⟨hx, hb, hml, hown, hts⟩, -⟩ := id C
  have hl9 := C.2.1.2.2.1
  intro x0 x1 x2 x3 x4 h H locs cells slots ls hH hL hl hrun
  unfold f_L_law_3044 at hrun
  refine V_aload_n (pc := 3044) hx hb dL_law_3044 rfl (lv_at hl 1 rfl) ?_
  refine lv_aload_n (pc := 3045) hx hb dL_law_3045 rfl (lv_at hl 0 rfl) ?_
  refine lv_iload (pc := 3046) hx hb dL_law_3046 (lv_at hl 4 rfl) ?_
  refine lv_iconst (v := (1 : Int32)) (pc := 3048) hx hb dL_law_3048 (by decide) ?_
  refine lv_iadd (pc := 3049) hx hb dL_law_3049 ?_
  obtain ⟨c518, hrun⟩ := gd_some hrun
  refine V_sld (pc := 3050) C hH hS dL_law_3050 c518 ?_
  refine V_aload_n (pc := 3051) hx hb dL_law_3051 rfl (lv_at hl 3 rfl) ?_
  refine V_bdN (pc := 3052) hL hrun (fun rr1 e1 => Z_runSH (rest := []) C hH (m_X0_fundAt hl9 e1) wSH_X0_296 rfl ⟨by decide, by decide⟩ rfl (Nat.le_of_ble_eq_true rfl) hl.1 dL_law_3052) (fun v519 h520 H locs cells slots hH hL hrun => ?_)
  refine lv_istore (i := 5) (lv' := [(5, .int v519), (0, .ref b), (1, rv x1), (2, rv x2), (3, rv x3), (4, .int x4)]) (pc := 3055) hx hb dL_law_3055 hl (by decide) rfl (fun ls hl => ?_)
  refine V_aload_n (pc := 3057) hx hb dL_law_3057 rfl (lv_at hl 3 rfl) ?_
  refine lv_aload_n (pc := 3058) hx hb dL_law_3058 rfl (lv_at hl 1 rfl) ?_
  refine lv_iload (pc := 3059) hx hb dL_law_3059 (lv_at hl 5 rfl) ?_
  refine lv_iconst (v := (1 : Int32)) (pc := 3061) hx hb dL_law_3061 (by decide) ?_
  refine lv_iadd (pc := 3062) hx hb dL_law_3062 ?_
  obtain ⟨c521, hrun⟩ := gd_some hrun
  refine V_sld (pc := 3063) C hH hS dL_law_3063 c521 ?_
  obtain ⟨c524, hrun⟩ := gd_some hrun
  refine V_bdN (pc := 3064) hL hrun (fun rr1 e1 => Z_runV (rest := []) C hH (m_X4_fundAt hl9 e1) wV_X0_298 c524 rfl (by decide) rfl rfl ⟨by decide, by decide⟩ rfl (Nat.le_of_ble_eq_true rfl) hl.1 dL_law_3064) (fun v522 h523 H locs cells slots hH hL hrun => ?_)
  refine lv_lstore (i := 6) (lv' := [(6, .long v522), (5, .int v519), (0, .ref b), (1, rv x1), (2, rv x2), (3, rv x3), (4, .int x4)]) (pc := 3067) hx hb dL_law_3067 hl (by decide) rfl (fun ls hl => ?_)
  refine V_aload_n (pc := 3069) hx hb dL_law_3069 rfl (lv_at hl 4 rfl) ?_
  obtain ⟨c527, hrun⟩ := gd_some hrun
  refine V_bdN (pc := 3070) hL hrun (fun rr1 e1 => Z_runV (rest := []) C hH (m_X4_thrown hl9 e1) wV_X0_170 c527 rfl (by decide) rfl rfl ⟨by decide, by decide⟩ rfl (Nat.le_of_ble_eq_true rfl) hl.1 dL_law_3070) (fun v525 h526 H locs cells slots hH hL hrun => ?_)
  refine lv_iload (pc := 3073) hx hb dL_law_3073 (lv_at hl 1 rfl) ?_
  refine lv_icmp_eq (tgt := 3080) (pc := 3075) hx hb dL_law_3075 (by decide) (fun c_ => ?_) (fun c_ => ?_)
  · have hrun := ite_t hrun c_
    refine lv_iload (pc := 3080) hx hb dL_law_3080 (lv_at hl 1 rfl) ?_
    refine lv_if_ne (tgt := 3096) (pc := 3082) hx hb dL_law_3082 (by decide) (fun c_ => ?_) (fun c_ => ?_)
    · have hrun := ite_f hrun c_
      exact b_L_law_3096 C hok hS K23 x0 x1 x2 x3 x4 h526 H locs cells slots ls hH hL (lv_sub hl [2, 3, 4, 5, 6] rfl) hrun
    · have hrun := ite_t hrun c_
      refine V_aload_n (pc := 3085) hx hb dL_law_3085 rfl (lv_at hl 5 rfl) ?_
      refine lv_iconst (v := (0 : Int32)) (pc := 3086) hx hb dL_law_3086 (by decide) ?_
      obtain ⟨c528, hrun⟩ := gd_some hrun
      refine V_lald (pc := 3087) C hH dL_law_3087 c528 ?_
      refine lv_lload (pc := 3088) hx hb dL_law_3088 (lv_at hl 0 rfl) ?_
      refine V_lcmp_eq (tgt := 3096) (pc := 3090) hx hb dL_law_3090 dL_law_3091 (by decide) (fun c_ => ?_) (fun c_ => ?_)
      · have hrun := ite_t hrun c_
        exact b_L_law_3096 C hok hS K23 x0 x1 x2 x3 x4 h526 H locs cells slots ls hH hL (lv_sub hl [2, 3, 4, 5, 6] rfl) hrun
      · have hrun := ite_f hrun c_
        refine lv_iconst (v := (0 : Int32)) (pc := 3094) hx hb dL_law_3094 (by decide) ?_
        exact V_lawret (pc := 3095) C hH hL hok hrun dL_law_3095
  · have hrun := ite_f hrun c_
    refine lv_iconst (v := (0 : Int32)) (pc := 3078) hx hb dL_law_3078 (by decide) ?_
    exact V_lawret (pc := 3079) C hH hL hok hrun dL_law_3079

theorem b_L_law_3151 {rr : (Int32 ⊕ Ex) × Hp} {k23 : Unit → Nat → Nat → Nat → Int32 → Hp → Rt Int32} {b L : Nat} {xs : Nat → Int32} {et9 : List (Nat × Nat × Nat × Nat)} (C : CX p l room_1 s m #[Value.ref b] meth c D s.heap cL_law "MassclaimLaw" 9 ret et9 8192 104096) (hok : rr.1 = .inl 1) (hS : va_X b L xs s s.heap ∧ b < s.heap.size) (K23 : ∀ (x0 : Unit) (x1 : Nat) (x2 : Nat) (x3 : Nat) (x4 : Int32) (h : Hp) (H : Heap) (locs : List Loc) (cells slots : Nat) (ls : Array Slot), HP D s.heap h H → LO s.heap locs → lv_has ls 9 [(0, .ref b), (1, rv x1), (2, rv x2), (3, rv x3), (4, .int x4)] → k23 x0 x1 x2 x3 x4 h = some rr → W p l e room_1 s m #[Value.ref b] below meth c H locs cells slots (lw_Z below #[Value.ref b] s) (F0 m 23 ls [])) : ∀ (x0 : Unit) (x1 : Nat) (x2 : Nat) (x3 : Nat) (x4 : Int32) (h : Hp) (H : Heap) (locs : List Loc) (cells slots : Nat) (ls : Array Slot), HP D s.heap h H → LO s.heap locs → lv_has ls 9 [(0, .ref b), (1, rv x1), (2, rv x2), (3, rv x3), (4, .int x4)] → f_L_law_3151 L xs k23 x0 x1 x2 x3 x4 h = some rr → W p l e room_1 s m #[Value.ref b] below meth c H locs cells slots (lw_Z below #[Value.ref b] s) (F0 m 3151 ls []) := by
  obtain ⟨⟨hx, hb, hml, hown, hts⟩, -⟩ := id C
  have hl9 := C.2.1.2.2.1
  intro x0 x1 x2 x3 x4 h H locs cells slots ls hH hL hl hrun
  unfold f_L_law_3151 at hrun
  refine lv_goto (tgt := 3277) (pc := 3151) hx hb dL_law_3151 (by decide) ?_
  exact b_L_law_3277 C hok hS K23 x0 x1 x2 x3 x4 h H locs cells slots ls hH hL (lv_sub hl [0, 1, 2, 3, 4] rfl) hrun

theorem b_L_law_3099 {rr : (Int32 ⊕ Ex) × Hp} {k23 : Unit → Nat → Nat → Nat → Int32 → Hp → Rt Int32} {b L : Nat} {xs : Nat → Int32} {et9 : List (Nat × Nat × Nat × Nat)} (C : CX p l room_1 s m #[Value.ref b] meth c D s.heap cL_law "MassclaimLaw" 9 ret et9 8192 104096) (hok : rr.1 = .inl 1) (hS : va_X b L xs s s.heap ∧ b < s.heap.size) (K23 : ∀ (x0 : Unit) (x1 : Nat) (x2 : Nat) (x3 : Nat) (x4 : Int32) (h : Hp) (H : Heap) (locs : List Loc) (cells slots : Nat) (ls : Array Slot), HP D s.heap h H → LO s.heap locs → lv_has ls 9 [(0, .ref b), (1, rv x1), (2, rv x2), (3, rv x3), (4, .int x4)] → k23 x0 x1 x2 x3 x4 h = some rr → W p l e room_1 s m #[Value.ref b] below meth c H locs cells slots (lw_Z below #[Value.ref b] s) (F0 m 23 ls [])) : ∀ (x0 : Unit) (x1 : Nat) (x2 : Nat) (x3 : Nat) (x4 : Int32) (h : Hp) (H : Heap) (locs : List Loc) (cells slots : Nat) (ls : Array Slot), HP D s.heap h H → LO s.heap locs → lv_has ls 9 [(0, .ref b), (1, rv x1), (2, rv x2), (3, rv x3), (4, .int x4)] → f_L_law_3099 L xs k23 x0 x1 x2 x3 x4 h = some rr → W p l e room_1 s m #[Value.ref b] below meth c H locs cells slots (lw_Z below #[Value.ref b] s) (F0 m 3099 ls []) := by
  obtain ⟨⟨hx, hb, hml, hown, hts⟩, -⟩ := id C
  have hl9 := C.2.1.2.2.1
  intro x0 x1 x2 x3 x4 h H locs cells slots ls hH hL hl hrun
  unfold f_L_law_3099 at hrun
  refine V_aload_n (pc := 3099) hx hb dL_law_3099 rfl (lv_at hl 1 rfl) ?_
  refine lv_aload_n (pc := 3100) hx hb dL_law_3100 rfl (lv_at hl 0 rfl) ?_
  refine lv_iload (pc := 3101) hx hb dL_law_3101 (lv_at hl 4 rfl) ?_
  refine lv_iconst (v := (1 : Int32)) (pc := 3103) hx hb dL_law_3103 (by decide) ?_
  refine lv_iadd (pc := 3104) hx hb dL_law_3104 ?_
  obtain ⟨c529, hrun⟩ := gd_some hrun
  refine V_sld (pc := 3105) C hH hS dL_law_3105 c529 ?_
  refine V_aload_n (pc := 3106) hx hb dL_law_3106 rfl (lv_at hl 3 rfl) ?_
  refine V_bdN (pc := 3107) hL hrun (fun rr1 e1 => Z_runSH (rest := []) C hH (m_X0_lawyerAt hl9 e1) wSH_X0_299 rfl ⟨by decide, by decide⟩ rfl (Nat.le_of_ble_eq_true rfl) hl.1 dL_law_3107) (fun v530 h531 H locs cells slots hH hL hrun => ?_)
  refine lv_istore (i := 5) (lv' := [(5, .int v530), (0, .ref b), (1, rv x1), (2, rv x2), (3, rv x3), (4, .int x4)]) (pc := 3110) hx hb dL_law_3110 hl (by decide) rfl (fun ls hl => ?_)
  refine V_aload_n (pc := 3112) hx hb dL_law_3112 rfl (lv_at hl 3 rfl) ?_
  refine lv_aload_n (pc := 3113) hx hb dL_law_3113 rfl (lv_at hl 1 rfl) ?_
  refine lv_iload (pc := 3114) hx hb dL_law_3114 (lv_at hl 5 rfl) ?_
  refine lv_iconst (v := (1 : Int32)) (pc := 3116) hx hb dL_law_3116 (by decide) ?_
  refine lv_iadd (pc := 3117) hx hb dL_law_3117 ?_
  obtain ⟨c532, hrun⟩ := gd_some hrun
  refine V_sld (pc := 3118) C hH hS dL_law_3118 c532 ?_
  obtain ⟨c535, hrun⟩ := gd_some hrun
  refine V_bdN (pc := 3119) hL hrun (fun rr1 e1 => Z_runV (rest := []) C hH (m_X4_lawyerAt hl9 e1) wV_X0_301 c535 rfl (by decide) rfl rfl ⟨by decide, by decide⟩ rfl (Nat.le_of_ble_eq_true rfl) hl.1 dL_law_3119) (fun v533 h534 H locs cells slots hH hL hrun => ?_)
  refine lv_lstore (i := 6) (lv' := [(6, .long v533), (5, .int v530), (0, .ref b), (1, rv x1), (2, rv x2), (3, rv x3), (4, .int x4)]) (pc := 3122) hx hb dL_law_3122 hl (by decide) rfl (fun ls hl => ?_)
  refine V_aload_n (pc := 3124) hx hb dL_law_3124 rfl (lv_at hl 4 rfl) ?_
  obtain ⟨c538, hrun⟩ := gd_some hrun
  refine V_bdN (pc := 3125) hL hrun (fun rr1 e1 => Z_runV (rest := []) C hH (m_X4_thrown hl9 e1) wV_X0_170 c538 rfl (by decide) rfl rfl ⟨by decide, by decide⟩ rfl (Nat.le_of_ble_eq_true rfl) hl.1 dL_law_3125) (fun v536 h537 H locs cells slots hH hL hrun => ?_)
  refine lv_iload (pc := 3128) hx hb dL_law_3128 (lv_at hl 1 rfl) ?_
  refine lv_icmp_eq (tgt := 3135) (pc := 3130) hx hb dL_law_3130 (by decide) (fun c_ => ?_) (fun c_ => ?_)
  · have hrun := ite_t hrun c_
    refine lv_iload (pc := 3135) hx hb dL_law_3135 (lv_at hl 1 rfl) ?_
    refine lv_if_ne (tgt := 3151) (pc := 3137) hx hb dL_law_3137 (by decide) (fun c_ => ?_) (fun c_ => ?_)
    · have hrun := ite_f hrun c_
      exact b_L_law_3151 C hok hS K23 x0 x1 x2 x3 x4 h537 H locs cells slots ls hH hL (lv_sub hl [2, 3, 4, 5, 6] rfl) hrun
    · have hrun := ite_t hrun c_
      refine V_aload_n (pc := 3140) hx hb dL_law_3140 rfl (lv_at hl 5 rfl) ?_
      refine lv_iconst (v := (0 : Int32)) (pc := 3141) hx hb dL_law_3141 (by decide) ?_
      obtain ⟨c539, hrun⟩ := gd_some hrun
      refine V_lald (pc := 3142) C hH dL_law_3142 c539 ?_
      refine lv_lload (pc := 3143) hx hb dL_law_3143 (lv_at hl 0 rfl) ?_
      refine V_lcmp_eq (tgt := 3151) (pc := 3145) hx hb dL_law_3145 dL_law_3146 (by decide) (fun c_ => ?_) (fun c_ => ?_)
      · have hrun := ite_t hrun c_
        exact b_L_law_3151 C hok hS K23 x0 x1 x2 x3 x4 h537 H locs cells slots ls hH hL (lv_sub hl [2, 3, 4, 5, 6] rfl) hrun
      · have hrun := ite_f hrun c_
        refine lv_iconst (v := (0 : Int32)) (pc := 3149) hx hb dL_law_3149 (by decide) ?_
        exact V_lawret (pc := 3150) C hH hL hok hrun dL_law_3150
  · have hrun := ite_f hrun c_
    refine lv_iconst (v := (0 : Int32)) (pc := 3133) hx hb dL_law_3133 (by decide) ?_
    exact V_lawret (pc := 3134) C hH hL hok hrun dL_law_3134

theorem b_L_law_3207 {rr : (Int32 ⊕ Ex) × Hp} {k23 : Unit → Nat → Nat → Nat → Int32 → Hp → Rt Int32} {b L : Nat} {xs : Nat → Int32} {et9 : List (Nat × Nat × Nat × Nat)} (C : CX p l room_1 s m #[Value.ref b] meth c D s.heap cL_law "MassclaimLaw" 9 ret et9 8192 104096) (hok : rr.1 = .inl 1) (hS : va_X b L xs s s.heap ∧ b < s.heap.size) (K23 : ∀ (x0 : Unit) (x1 : Nat) (x2 : Nat) (x3 : Nat) (x4 : Int32) (h : Hp) (H : Heap) (locs : List Loc) (cells slots : Nat) (ls : Array Slot), HP D s.heap h H → LO s.heap locs → lv_has ls 9 [(0, .ref b), (1, rv x1), (2, rv x2), (3, rv x3), (4, .int x4)] → k23 x0 x1 x2 x3 x4 h = some rr → W p l e room_1 s m #[Value.ref b] below meth c H locs cells slots (lw_Z below #[Value.ref b] s) (F0 m 23 ls [])) : ∀ (x0 : Unit) (x1 : Nat) (x2 : Nat) (x3 : Nat) (x4 : Int32) (h : Hp) (H : Heap) (locs : List Loc) (cells slots : Nat) (ls : Array Slot), HP D s.heap h H → LO s.heap locs → lv_has ls 9 [(0, .ref b), (1, rv x1), (2, rv x2), (3, rv x3), (4, .int x4)] → f_L_law_3207 L xs k23 x0 x1 x2 x3 x4 h = some rr → W p l e room_1 s m #[Value.ref b] below meth c H locs cells slots (lw_Z below #[Value.ref b] s) (F0 m 3207 ls []) := by
  obtain ⟨⟨hx, hb, hml, hown, hts⟩, -⟩ := id C
  have hl9 := C.2.1.2.2.1
  intro x0 x1 x2 x3 x4 h H locs cells slots ls hH hL hl hrun
  unfold f_L_law_3207 at hrun
  refine lv_goto (tgt := 3277) (pc := 3207) hx hb dL_law_3207 (by decide) ?_
  exact b_L_law_3277 C hok hS K23 x0 x1 x2 x3 x4 h H locs cells slots ls hH hL (lv_sub hl [0, 1, 2, 3, 4] rfl) hrun

theorem b_L_law_3154 {rr : (Int32 ⊕ Ex) × Hp} {k23 : Unit → Nat → Nat → Nat → Int32 → Hp → Rt Int32} {b L : Nat} {xs : Nat → Int32} {et9 : List (Nat × Nat × Nat × Nat)} (C : CX p l room_1 s m #[Value.ref b] meth c D s.heap cL_law "MassclaimLaw" 9 ret et9 8192 104096) (hok : rr.1 = .inl 1) (hS : va_X b L xs s s.heap ∧ b < s.heap.size) (K23 : ∀ (x0 : Unit) (x1 : Nat) (x2 : Nat) (x3 : Nat) (x4 : Int32) (h : Hp) (H : Heap) (locs : List Loc) (cells slots : Nat) (ls : Array Slot), HP D s.heap h H → LO s.heap locs → lv_has ls 9 [(0, .ref b), (1, rv x1), (2, rv x2), (3, rv x3), (4, .int x4)] → k23 x0 x1 x2 x3 x4 h = some rr → W p l e room_1 s m #[Value.ref b] below meth c H locs cells slots (lw_Z below #[Value.ref b] s) (F0 m 23 ls [])) : ∀ (x0 : Unit) (x1 : Nat) (x2 : Nat) (x3 : Nat) (x4 : Int32) (h : Hp) (H : Heap) (locs : List Loc) (cells slots : Nat) (ls : Array Slot), HP D s.heap h H → LO s.heap locs → lv_has ls 9 [(0, .ref b), (1, rv x1), (2, rv x2), (3, rv x3), (4, .int x4)] → f_L_law_3154 L xs k23 x0 x1 x2 x3 x4 h = some rr → W p l e room_1 s m #[Value.ref b] below meth c H locs cells slots (lw_Z below #[Value.ref b] s) (F0 m 3154 ls []) := by
  obtain ⟨⟨hx, hb, hml, hown, hts⟩, -⟩ := id C
  have hl9 := C.2.1.2.2.1
  intro x0 x1 x2 x3 x4 h H locs cells slots ls hH hL hl hrun
  unfold f_L_law_3154 at hrun
  refine V_aload_n (pc := 3154) hx hb dL_law_3154 rfl (lv_at hl 1 rfl) ?_
  refine lv_aload_n (pc := 3155) hx hb dL_law_3155 rfl (lv_at hl 0 rfl) ?_
  refine lv_iload (pc := 3156) hx hb dL_law_3156 (lv_at hl 4 rfl) ?_
  refine lv_iconst (v := (1 : Int32)) (pc := 3158) hx hb dL_law_3158 (by decide) ?_
  refine lv_iadd (pc := 3159) hx hb dL_law_3159 ?_
  obtain ⟨c540, hrun⟩ := gd_some hrun
  refine V_sld (pc := 3160) C hH hS dL_law_3160 c540 ?_
  refine V_aload_n (pc := 3161) hx hb dL_law_3161 rfl (lv_at hl 3 rfl) ?_
  refine V_bdN (pc := 3162) hL hrun (fun rr1 e1 => Z_runSH (rest := []) C hH (m_X0_count hl9 e1) wSH_X0_302 rfl ⟨by decide, by decide⟩ rfl (Nat.le_of_ble_eq_true rfl) hl.1 dL_law_3162) (fun v541 h542 H locs cells slots hH hL hrun => ?_)
  refine lv_istore (i := 5) (lv' := [(5, .int v541), (0, .ref b), (1, rv x1), (2, rv x2), (3, rv x3), (4, .int x4)]) (pc := 3165) hx hb dL_law_3165 hl (by decide) rfl (fun ls hl => ?_)
  refine V_aload_n (pc := 3167) hx hb dL_law_3167 rfl (lv_at hl 3 rfl) ?_
  refine lv_aload_n (pc := 3168) hx hb dL_law_3168 rfl (lv_at hl 1 rfl) ?_
  refine lv_iload (pc := 3169) hx hb dL_law_3169 (lv_at hl 5 rfl) ?_
  refine lv_iconst (v := (1 : Int32)) (pc := 3171) hx hb dL_law_3171 (by decide) ?_
  refine lv_iadd (pc := 3172) hx hb dL_law_3172 ?_
  obtain ⟨c543, hrun⟩ := gd_some hrun
  refine V_sld (pc := 3173) C hH hS dL_law_3173 c543 ?_
  obtain ⟨c546, hrun⟩ := gd_some hrun
  refine V_bdN (pc := 3174) hL hrun (fun rr1 e1 => Z_runV (rest := []) C hH (m_X4_count hl9 e1) wV_X0_304 c546 rfl (by decide) rfl rfl ⟨by decide, by decide⟩ rfl (Nat.le_of_ble_eq_true rfl) hl.1 dL_law_3174) (fun v544 h545 H locs cells slots hH hL hrun => ?_)
  refine lv_istore (i := 6) (lv' := [(6, .int v544), (5, .int v541), (0, .ref b), (1, rv x1), (2, rv x2), (3, rv x3), (4, .int x4)]) (pc := 3177) hx hb dL_law_3177 hl (by decide) rfl (fun ls hl => ?_)
  refine V_aload_n (pc := 3179) hx hb dL_law_3179 rfl (lv_at hl 4 rfl) ?_
  obtain ⟨c549, hrun⟩ := gd_some hrun
  refine V_bdN (pc := 3180) hL hrun (fun rr1 e1 => Z_runV (rest := []) C hH (m_X4_thrown hl9 e1) wV_X0_170 c549 rfl (by decide) rfl rfl ⟨by decide, by decide⟩ rfl (Nat.le_of_ble_eq_true rfl) hl.1 dL_law_3180) (fun v547 h548 H locs cells slots hH hL hrun => ?_)
  refine lv_iload (pc := 3183) hx hb dL_law_3183 (lv_at hl 1 rfl) ?_
  refine lv_icmp_eq (tgt := 3190) (pc := 3185) hx hb dL_law_3185 (by decide) (fun c_ => ?_) (fun c_ => ?_)
  · have hrun := ite_t hrun c_
    refine lv_iload (pc := 3190) hx hb dL_law_3190 (lv_at hl 1 rfl) ?_
    refine lv_if_ne (tgt := 3207) (pc := 3192) hx hb dL_law_3192 (by decide) (fun c_ => ?_) (fun c_ => ?_)
    · have hrun := ite_f hrun c_
      exact b_L_law_3207 C hok hS K23 x0 x1 x2 x3 x4 h548 H locs cells slots ls hH hL (lv_sub hl [2, 3, 4, 5, 6] rfl) hrun
    · have hrun := ite_t hrun c_
      refine V_aload_n (pc := 3195) hx hb dL_law_3195 rfl (lv_at hl 5 rfl) ?_
      refine lv_iconst (v := (0 : Int32)) (pc := 3196) hx hb dL_law_3196 (by decide) ?_
      obtain ⟨c550, hrun⟩ := gd_some hrun
      refine V_lald (pc := 3197) C hH dL_law_3197 c550 ?_
      refine lv_iload (pc := 3198) hx hb dL_law_3198 (lv_at hl 0 rfl) ?_
      refine lv_i2l (pc := 3200) hx hb dL_law_3200 rfl ?_
      refine V_lcmp_eq (tgt := 3207) (pc := 3201) hx hb dL_law_3201 dL_law_3202 (by decide) (fun c_ => ?_) (fun c_ => ?_)
      · have hrun := ite_t hrun c_
        exact b_L_law_3207 C hok hS K23 x0 x1 x2 x3 x4 h548 H locs cells slots ls hH hL (lv_sub hl [2, 3, 4, 5, 6] rfl) hrun
      · have hrun := ite_f hrun c_
        refine lv_iconst (v := (0 : Int32)) (pc := 3205) hx hb dL_law_3205 (by decide) ?_
        exact V_lawret (pc := 3206) C hH hL hok hrun dL_law_3206
  · have hrun := ite_f hrun c_
    refine lv_iconst (v := (0 : Int32)) (pc := 3188) hx hb dL_law_3188 (by decide) ?_
    exact V_lawret (pc := 3189) C hH hL hok hrun dL_law_3189

theorem b_L_law_3210 {rr : (Int32 ⊕ Ex) × Hp} {k23 : Unit → Nat → Nat → Nat → Int32 → Hp → Rt Int32} {b L : Nat} {xs : Nat → Int32} {et9 : List (Nat × Nat × Nat × Nat)} (C : CX p l room_1 s m #[Value.ref b] meth c D s.heap cL_law "MassclaimLaw" 9 ret et9 8192 104096) (hok : rr.1 = .inl 1) (hS : va_X b L xs s s.heap ∧ b < s.heap.size) (K23 : ∀ (x0 : Unit) (x1 : Nat) (x2 : Nat) (x3 : Nat) (x4 : Int32) (h : Hp) (H : Heap) (locs : List Loc) (cells slots : Nat) (ls : Array Slot), HP D s.heap h H → LO s.heap locs → lv_has ls 9 [(0, .ref b), (1, rv x1), (2, rv x2), (3, rv x3), (4, .int x4)] → k23 x0 x1 x2 x3 x4 h = some rr → W p l e room_1 s m #[Value.ref b] below meth c H locs cells slots (lw_Z below #[Value.ref b] s) (F0 m 23 ls [])) : ∀ (x0 : Unit) (x1 : Nat) (x2 : Nat) (x3 : Nat) (x4 : Int32) (h : Hp) (H : Heap) (locs : List Loc) (cells slots : Nat) (ls : Array Slot), HP D s.heap h H → LO s.heap locs → lv_has ls 9 [(0, .ref b), (1, rv x1), (2, rv x2), (3, rv x3), (4, .int x4)] → f_L_law_3210 L xs k23 x0 x1 x2 x3 x4 h = some rr → W p l e room_1 s m #[Value.ref b] below meth c H locs cells slots (lw_Z below #[Value.ref b] s) (F0 m 3210 ls []) := by
  obtain ⟨⟨hx, hb, hml, hown, hts⟩, -⟩ := id C
  have hl9 := C.2.1.2.2.1
  intro x0 x1 x2 x3 x4 h H locs cells slots ls hH hL hl hrun
  unfold f_L_law_3210 at hrun
  refine V_aload_n (pc := 3210) hx hb dL_law_3210 rfl (lv_at hl 1 rfl) ?_
  obtain ⟨c553, hrun⟩ := gd_some hrun
  refine V_bdN (pc := 3211) hL hrun (fun rr1 e1 => Z_runV (rest := []) C hH (m_X1_errors hl9 e1) wV_X0_305 c553 rfl (by decide) rfl rfl ⟨by decide, by decide⟩ rfl (Nat.le_of_ble_eq_true rfl) hl.1 dL_law_3211) (fun v551 h552 H locs cells slots hH hL hrun => ?_)
  refine V_aload_n (pc := 3214) hx hb dL_law_3214 rfl (lv_at hl 2 rfl) ?_
  obtain ⟨c556, hrun⟩ := gd_some hrun
  refine V_bdN (pc := 3215) hL hrun (fun rr1 e1 => Z_runV (rest := [.int v551]) C hH (m_X4_errors hl9 e1) wV_X0_308 c556 rfl (by decide) rfl rfl ⟨by decide, by decide⟩ rfl (Nat.le_of_ble_eq_true rfl) hl.1 dL_law_3215) (fun v554 h555 H locs cells slots hH hL hrun => ?_)
  refine lv_icmp_eq (tgt := 3277) (pc := 3218) hx hb dL_law_3218 (by decide) (fun c_ => ?_) (fun c_ => ?_)
  · have hrun := ite_t hrun c_
    exact b_L_law_3277 C hok hS K23 x0 x1 x2 x3 x4 h555 H locs cells slots ls hH hL (lv_sub hl [0, 1, 2, 3, 4] rfl) hrun
  · have hrun := ite_f hrun c_
    refine lv_iconst (v := (0 : Int32)) (pc := 3221) hx hb dL_law_3221 (by decide) ?_
    exact V_lawret (pc := 3222) C hH hL hok hrun dL_law_3222

theorem b_L_law_3223 {rr : (Int32 ⊕ Ex) × Hp} {k23 : Unit → Nat → Nat → Nat → Int32 → Hp → Rt Int32} {b L : Nat} {xs : Nat → Int32} {et9 : List (Nat × Nat × Nat × Nat)} (C : CX p l room_1 s m #[Value.ref b] meth c D s.heap cL_law "MassclaimLaw" 9 ret et9 8192 104096) (hok : rr.1 = .inl 1) (hS : va_X b L xs s s.heap ∧ b < s.heap.size) (K23 : ∀ (x0 : Unit) (x1 : Nat) (x2 : Nat) (x3 : Nat) (x4 : Int32) (h : Hp) (H : Heap) (locs : List Loc) (cells slots : Nat) (ls : Array Slot), HP D s.heap h H → LO s.heap locs → lv_has ls 9 [(0, .ref b), (1, rv x1), (2, rv x2), (3, rv x3), (4, .int x4)] → k23 x0 x1 x2 x3 x4 h = some rr → W p l e room_1 s m #[Value.ref b] below meth c H locs cells slots (lw_Z below #[Value.ref b] s) (F0 m 23 ls [])) : ∀ (x0 : Unit) (x1 : Nat) (x2 : Nat) (x3 : Nat) (x4 : Int32) (h : Hp) (H : Heap) (locs : List Loc) (cells slots : Nat) (ls : Array Slot), HP D s.heap h H → LO s.heap locs → lv_has ls 9 [(0, .ref b), (1, rv x1), (2, rv x2), (3, rv x3), (4, .int x4)] → f_L_law_3223 L xs k23 x0 x1 x2 x3 x4 h = some rr → W p l e room_1 s m #[Value.ref b] below meth c H locs cells slots (lw_Z below #[Value.ref b] s) (F0 m 3223 ls []) := by
  obtain ⟨⟨hx, hb, hml, hown, hts⟩, -⟩ := id C
  have hl9 := C.2.1.2.2.1
  intro x0 x1 x2 x3 x4 h H locs cells slots ls hH hL hl hrun
  unfold f_L_law_3223 at hrun
  refine V_aload_n (pc := 3223) hx hb dL_law_3223 rfl (lv_at hl 1 rfl) ?_
  obtain ⟨c559, hrun⟩ := gd_some hrun
  refine V_bdN (pc := 3224) hL hrun (fun rr1 e1 => Z_runV (rest := []) C hH (m_X1_paidBits hl9 e1) wV_X0_309 c559 rfl (by decide) rfl rfl ⟨by decide, by decide⟩ rfl (Nat.le_of_ble_eq_true rfl) hl.1 dL_law_3224) (fun v557 h558 H locs cells slots hH hL hrun => ?_)
  refine V_aload_n (pc := 3227) hx hb dL_law_3227 rfl (lv_at hl 2 rfl) ?_
  obtain ⟨c562, hrun⟩ := gd_some hrun
  refine V_bdN (pc := 3228) hL hrun (fun rr1 e1 => Z_runV (rest := [.int v557]) C hH (m_X4_paidBits hl9 e1) wV_X0_312 c562 rfl (by decide) rfl rfl ⟨by decide, by decide⟩ rfl (Nat.le_of_ble_eq_true rfl) hl.1 dL_law_3228) (fun v560 h561 H locs cells slots hH hL hrun => ?_)
  refine lv_icmp_eq (tgt := 3277) (pc := 3231) hx hb dL_law_3231 (by decide) (fun c_ => ?_) (fun c_ => ?_)
  · have hrun := ite_t hrun c_
    exact b_L_law_3277 C hok hS K23 x0 x1 x2 x3 x4 h561 H locs cells slots ls hH hL (lv_sub hl [0, 1, 2, 3, 4] rfl) hrun
  · have hrun := ite_f hrun c_
    refine lv_iconst (v := (0 : Int32)) (pc := 3234) hx hb dL_law_3234 (by decide) ?_
    exact V_lawret (pc := 3235) C hH hL hok hrun dL_law_3235

theorem b_L_law_3274 {rr : (Int32 ⊕ Ex) × Hp} {k23 : Unit → Nat → Nat → Nat → Int32 → Hp → Rt Int32} {b L : Nat} {xs : Nat → Int32} {et9 : List (Nat × Nat × Nat × Nat)} (C : CX p l room_1 s m #[Value.ref b] meth c D s.heap cL_law "MassclaimLaw" 9 ret et9 8192 104096) (hok : rr.1 = .inl 1) (hS : va_X b L xs s s.heap ∧ b < s.heap.size) (K23 : ∀ (x0 : Unit) (x1 : Nat) (x2 : Nat) (x3 : Nat) (x4 : Int32) (h : Hp) (H : Heap) (locs : List Loc) (cells slots : Nat) (ls : Array Slot), HP D s.heap h H → LO s.heap locs → lv_has ls 9 [(0, .ref b), (1, rv x1), (2, rv x2), (3, rv x3), (4, .int x4)] → k23 x0 x1 x2 x3 x4 h = some rr → W p l e room_1 s m #[Value.ref b] below meth c H locs cells slots (lw_Z below #[Value.ref b] s) (F0 m 23 ls [])) : ∀ (x0 : Unit) (x1 : Nat) (x2 : Nat) (x3 : Nat) (x4 : Int32) (h : Hp) (H : Heap) (locs : List Loc) (cells slots : Nat) (ls : Array Slot), HP D s.heap h H → LO s.heap locs → lv_has ls 9 [(0, .ref b), (1, rv x1), (2, rv x2), (3, rv x3), (4, .int x4)] → f_L_law_3274 L xs k23 x0 x1 x2 x3 x4 h = some rr → W p l e room_1 s m #[Value.ref b] below meth c H locs cells slots (lw_Z below #[Value.ref b] s) (F0 m 3274 ls []) := by
  obtain ⟨⟨hx, hb, hml, hown, hts⟩, -⟩ := id C
  have hl9 := C.2.1.2.2.1
  intro x0 x1 x2 x3 x4 h H locs cells slots ls hH hL hl hrun
  unfold f_L_law_3274 at hrun
  refine lv_goto (tgt := 3277) (pc := 3274) hx hb dL_law_3274 (by decide) ?_
  exact b_L_law_3277 C hok hS K23 x0 x1 x2 x3 x4 h H locs cells slots ls hH hL (lv_sub hl [0, 1, 2, 3, 4] rfl) hrun

theorem b_L_law_3272 {rr : (Int32 ⊕ Ex) × Hp}  {b L : Nat} {xs : Nat → Int32} {et9 : List (Nat × Nat × Nat × Nat)} (C : CX p l room_1 s m #[Value.ref b] meth c D s.heap cL_law "MassclaimLaw" 9 ret et9 8192 104096) (hok : rr.1 = .inl 1) (hS : va_X b L xs s s.heap ∧ b < s.heap.size)  : ∀ (h : Hp) (H : Heap) (locs : List Loc) (cells slots : Nat) (ls : Array Slot), HP D s.heap h H → LO s.heap locs → lv_has ls 9 [] → f_L_law_3272 L xs h = some rr → W p l e room_1 s m #[Value.ref b] below meth c H locs cells slots (lw_Z below #[Value.ref b] s) (F0 m 3272 ls []) := by
  obtain ⟨⟨hx, hb, hml, hown, hts⟩, -⟩ := id C
  have hl9 := C.2.1.2.2.1
  intro h H locs cells slots ls hH hL hl hrun
  unfold f_L_law_3272 at hrun
  refine lv_iconst (v := (0 : Int32)) (pc := 3272) hx hb dL_law_3272 (by decide) ?_
  exact V_lawret (pc := 3273) C hH hL hok hrun dL_law_3273

theorem b_L_law_3236 {rr : (Int32 ⊕ Ex) × Hp} {k23 : Unit → Nat → Nat → Nat → Int32 → Hp → Rt Int32} {b L : Nat} {xs : Nat → Int32} {et9 : List (Nat × Nat × Nat × Nat)} (C : CX p l room_1 s m #[Value.ref b] meth c D s.heap cL_law "MassclaimLaw" 9 ret et9 8192 104096) (hok : rr.1 = .inl 1) (hS : va_X b L xs s s.heap ∧ b < s.heap.size) (K23 : ∀ (x0 : Unit) (x1 : Nat) (x2 : Nat) (x3 : Nat) (x4 : Int32) (h : Hp) (H : Heap) (locs : List Loc) (cells slots : Nat) (ls : Array Slot), HP D s.heap h H → LO s.heap locs → lv_has ls 9 [(0, .ref b), (1, rv x1), (2, rv x2), (3, rv x3), (4, .int x4)] → k23 x0 x1 x2 x3 x4 h = some rr → W p l e room_1 s m #[Value.ref b] below meth c H locs cells slots (lw_Z below #[Value.ref b] s) (F0 m 23 ls [])) : ∀ (x0 : Unit) (x1 : Nat) (x2 : Nat) (x3 : Nat) (x4 : Int32) (h : Hp) (H : Heap) (locs : List Loc) (cells slots : Nat) (ls : Array Slot), HP D s.heap h H → LO s.heap locs → lv_has ls 9 [(0, .ref b), (1, rv x1), (2, rv x2), (3, rv x3), (4, .int x4)] → f_L_law_3236 L xs k23 x0 x1 x2 x3 x4 h = some rr → W p l e room_1 s m #[Value.ref b] below meth c H locs cells slots (lw_Z below #[Value.ref b] s) (F0 m 3236 ls []) := by
  obtain ⟨⟨hx, hb, hml, hown, hts⟩, -⟩ := id C
  have hl9 := C.2.1.2.2.1
  intro x0 x1 x2 x3 x4 h H locs cells slots ls hH hL hl hrun
  unfold f_L_law_3236 at hrun
  refine V_aload_n (pc := 3236) hx hb dL_law_3236 rfl (lv_at hl 1 rfl) ?_
  obtain ⟨c565, hrun⟩ := gd_some hrun
  refine V_bdN (pc := 3237) hL hrun (fun rr1 e1 => Z_runV (rest := []) C hH (m_X1_meanDelivered hl9 e1) wV_X0_313 c565 rfl (by decide) rfl rfl ⟨by decide, by decide⟩ rfl (Nat.le_of_ble_eq_true rfl) hl.1 dL_law_3237) (fun v563 h564 H locs cells slots hH hL hrun => ?_)
  refine lv_dstore (i := 5) (lv' := [(5, .double v563), (0, .ref b), (1, rv x1), (2, rv x2), (3, rv x3), (4, .int x4)]) (pc := 3240) hx hb dL_law_3240 hl (by decide) rfl (fun ls hl => ?_)
  refine V_aload_n (pc := 3242) hx hb dL_law_3242 rfl (lv_at hl 3 rfl) ?_
  obtain ⟨c568, hrun⟩ := gd_some hrun
  refine V_bdN (pc := 3243) hL hrun (fun rr1 e1 => Z_runV (rest := []) C hH (m_X4_meanDelivered hl9 e1) wV_X0_317 c568 rfl (by decide) rfl rfl ⟨by decide, by decide⟩ rfl (Nat.le_of_ble_eq_true rfl) hl.1 dL_law_3243) (fun v566 h567 H locs cells slots hH hL hrun => ?_)
  refine lv_dstore (i := 7) (lv' := [(7, .double v566), (5, .double v563), (0, .ref b), (1, rv x1), (2, rv x2), (3, rv x3), (4, .int x4)]) (pc := 3246) hx hb dL_law_3246 hl (by decide) rfl (fun ls hl => ?_)
  refine lv_dload (pc := 3248) hx hb dL_law_3248 (lv_at hl 1 rfl) ?_
  refine lv_dload (pc := 3250) hx hb dL_law_3250 (lv_at hl 0 rfl) ?_
  refine lv_dcmp (pc := 3252) hx hb dL_law_3252 ?_
  refine lv_if_eq (tgt := 3274) (pc := 3253) hx hb dL_law_3253 (by decide) (fun c_ => ?_) (fun c_ => ?_)
  · have hrun := ite_t hrun c_
    exact b_L_law_3274 C hok hS K23 x0 x1 x2 x3 x4 h567 H locs cells slots ls hH hL (lv_sub hl [2, 3, 4, 5, 6] rfl) hrun
  · have hrun := ite_f hrun c_
    refine lv_dload (pc := 3256) hx hb dL_law_3256 (lv_at hl 1 rfl) ?_
    refine lv_dload (pc := 3258) hx hb dL_law_3258 (lv_at hl 1 rfl) ?_
    refine lv_dcmp (pc := 3260) hx hb dL_law_3260 ?_
    refine lv_if_eq (tgt := 3272) (pc := 3261) hx hb dL_law_3261 (by decide) (fun c_ => ?_) (fun c_ => ?_)
    · have hrun := ite_t hrun c_
      exact b_L_law_3272 C hok hS h567 H locs cells slots ls hH hL (lv_sub hl [] rfl) hrun
    · have hrun := ite_f hrun c_
      refine lv_dload (pc := 3264) hx hb dL_law_3264 (lv_at hl 0 rfl) ?_
      refine lv_dload (pc := 3266) hx hb dL_law_3266 (lv_at hl 0 rfl) ?_
      refine lv_dcmp (pc := 3268) hx hb dL_law_3268 ?_
      refine lv_if_ne (tgt := 3274) (pc := 3269) hx hb dL_law_3269 (by decide) (fun c_ => ?_) (fun c_ => ?_)
      · have hrun := ite_f hrun c_
        exact b_L_law_3274 C hok hS K23 x0 x1 x2 x3 x4 h567 H locs cells slots ls hH hL (lv_sub hl [2, 3, 4, 5, 6] rfl) hrun
      · have hrun := ite_t hrun c_
        exact b_L_law_3272 C hok hS h567 H locs cells slots ls hH hL (lv_sub hl [] rfl) hrun

theorem b_L_law_23 {rr : (Int32 ⊕ Ex) × Hp}  {b L : Nat} {xs : Nat → Int32} {et9 : List (Nat × Nat × Nat × Nat)} (C : CX p l room_1 s m #[Value.ref b] meth c D s.heap cL_law "MassclaimLaw" 9 ret et9 8192 104096) (hok : rr.1 = .inl 1) (hS : va_X b L xs s s.heap ∧ b < s.heap.size)  : ∀ (n : Nat) (x0 : Unit) (x1 : Nat) (x2 : Nat) (x3 : Nat) (x4 : Int32) (h : Hp) (H : Heap) (locs : List Loc) (cells slots : Nat) (ls : Array Slot), HP D s.heap h H → LO s.heap locs → lv_has ls 9 [(0, .ref b), (1, rv x1), (2, rv x2), (3, rv x3), (4, .int x4)] → f_L_law_23 L xs n x0 x1 x2 x3 x4 h = some rr → W p l e room_1 s m #[Value.ref b] below meth c H locs cells slots (lw_Z below #[Value.ref b] s) (F0 m 23 ls []) := by
  obtain ⟨⟨hx, hb, hml, hown, hts⟩, -⟩ := id C
  have hl9 := C.2.1.2.2.1
  intro n
  induction n with
  | zero =>
    intro x0 x1 x2 x3 x4 h H locs cells slots ls hH hL hl hrun
    cases (show (none : Option _) = some rr from hrun)
  | succ n ih =>
    intro x0 x1 x2 x3 x4 h H locs cells slots ls hH hL hl hrun
    rw [f_L_law_23] at hrun
    refine lv_iload (pc := 23) hx hb dL_law_23 (lv_at hl 4 rfl) ?_
    refine lv_aload_n (pc := 25) hx hb dL_law_25 rfl (lv_at hl 0 rfl) ?_
    refine V_slen (pc := 26) C hH hS dL_law_26 ?_
    refine lv_iconst (v := (5 : Int32)) (pc := 27) hx hb dL_law_27 (by decide) ?_
    refine lv_isub (pc := 28) hx hb dL_law_28 ?_
    refine lv_icmp_gt (tgt := 3283) (pc := 29) hx hb dL_law_29 (by decide) (fun c_ => ?_) (fun c_ => ?_)
    · have hrun := ite_t hrun c_
      refine lv_iconst (v := (1 : Int32)) (pc := 3283) hx hb dL_law_3283 (by decide) ?_
      exact V_lawret (pc := 3284) C hH hL hok hrun dL_law_3284
    · have hrun := ite_f hrun c_
      refine lv_aload_n (pc := 32) hx hb dL_law_32 rfl (lv_at hl 0 rfl) ?_
      refine lv_iload (pc := 33) hx hb dL_law_33 (lv_at hl 4 rfl) ?_
      obtain ⟨c569, hrun⟩ := gd_some hrun
      refine V_sld (pc := 35) C hH hS dL_law_35 c569 ?_
      refine lv_bipush (v := (63 : Int32)) (pc := 36) hx hb dL_law_36 (by decide) ?_
      refine lv_iand (pc := 38) hx hb dL_law_38 ?_
      refine lv_topi (fun v570 ev570 => ?_)
      have hrun := vl_at hrun v570 ev570
      by_cases n0 : v570 = (0 : Int32)
      · have hrun := ite_t hrun n0
        refine lv_tableIn (pc := 39) (off := 201) (tgt := 240) hx hb dL_law_39 (by rw [n0]; decide) (by rw [n0]; decide) (by rw [n0]; decide) (by decide) ?_
        exact b_L_law_240 C hok hS ih x0 x1 x2 x3 x4 h H locs cells slots ls hH hL (lv_sub hl [0, 1, 2, 3, 4] rfl) hrun
      have hrun := ite_f hrun n0
      by_cases n1 : v570 = (1 : Int32)
      · have hrun := ite_t hrun n1
        refine lv_tableIn (pc := 39) (off := 214) (tgt := 253) hx hb dL_law_39 (by rw [n1]; decide) (by rw [n1]; decide) (by rw [n1]; decide) (by decide) ?_
        exact b_L_law_253 C hok hS ih x0 x1 x2 x3 x4 h H locs cells slots ls hH hL (lv_sub hl [0, 1, 2, 3, 4] rfl) hrun
      have hrun := ite_f hrun n1
      by_cases n2 : v570 = (2 : Int32)
      · have hrun := ite_t hrun n2
        refine lv_tableIn (pc := 39) (off := 270) (tgt := 309) hx hb dL_law_39 (by rw [n2]; decide) (by rw [n2]; decide) (by rw [n2]; decide) (by decide) ?_
        exact b_L_law_309 C hok hS ih x0 x1 x2 x3 x4 h H locs cells slots ls hH hL (lv_sub hl [0, 1, 2, 3, 4] rfl) hrun
      have hrun := ite_f hrun n2
      by_cases n3 : v570 = (3 : Int32)
      · have hrun := ite_t hrun n3
        refine lv_tableIn (pc := 39) (off := 362) (tgt := 401) hx hb dL_law_39 (by rw [n3]; decide) (by rw [n3]; decide) (by rw [n3]; decide) (by decide) ?_
        exact b_L_law_401 C hok hS ih x0 x1 x2 x3 x4 h H locs cells slots ls hH hL (lv_sub hl [0, 1, 2, 3, 4] rfl) hrun
      have hrun := ite_f hrun n3
      by_cases n4 : v570 = (4 : Int32)
      · have hrun := ite_t hrun n4
        refine lv_tableIn (pc := 39) (off := 430) (tgt := 469) hx hb dL_law_39 (by rw [n4]; decide) (by rw [n4]; decide) (by rw [n4]; decide) (by decide) ?_
        exact b_L_law_469 C hok hS ih x0 x1 x2 x3 x4 h H locs cells slots ls hH hL (lv_sub hl [0, 1, 2, 3, 4] rfl) hrun
      have hrun := ite_f hrun n4
      by_cases n5 : v570 = (5 : Int32)
      · have hrun := ite_t hrun n5
        refine lv_tableIn (pc := 39) (off := 497) (tgt := 536) hx hb dL_law_39 (by rw [n5]; decide) (by rw [n5]; decide) (by rw [n5]; decide) (by decide) ?_
        exact b_L_law_536 C hok hS ih x0 x1 x2 x3 x4 h H locs cells slots ls hH hL (lv_sub hl [0, 1, 2, 3, 4] rfl) hrun
      have hrun := ite_f hrun n5
      by_cases n6 : v570 = (6 : Int32)
      · have hrun := ite_t hrun n6
        refine lv_tableIn (pc := 39) (off := 577) (tgt := 616) hx hb dL_law_39 (by rw [n6]; decide) (by rw [n6]; decide) (by rw [n6]; decide) (by decide) ?_
        exact b_L_law_616 C hok hS ih x0 x1 x2 x3 x4 h H locs cells slots ls hH hL (lv_sub hl [0, 1, 2, 3, 4] rfl) hrun
      have hrun := ite_f hrun n6
      by_cases n7 : v570 = (7 : Int32)
      · have hrun := ite_t hrun n7
        refine lv_tableIn (pc := 39) (off := 673) (tgt := 712) hx hb dL_law_39 (by rw [n7]; decide) (by rw [n7]; decide) (by rw [n7]; decide) (by decide) ?_
        exact b_L_law_712 C hok hS ih x0 x1 x2 x3 x4 h H locs cells slots ls hH hL (lv_sub hl [0, 1, 2, 3, 4] rfl) hrun
      have hrun := ite_f hrun n7
      by_cases n8 : v570 = (8 : Int32)
      · have hrun := ite_t hrun n8
        refine lv_tableIn (pc := 39) (off := 741) (tgt := 780) hx hb dL_law_39 (by rw [n8]; decide) (by rw [n8]; decide) (by rw [n8]; decide) (by decide) ?_
        exact b_L_law_780 C hok hS ih x0 x1 x2 x3 x4 h H locs cells slots ls hH hL (lv_sub hl [0, 1, 2, 3, 4] rfl) hrun
      have hrun := ite_f hrun n8
      by_cases n9 : v570 = (9 : Int32)
      · have hrun := ite_t hrun n9
        refine lv_tableIn (pc := 39) (off := 808) (tgt := 847) hx hb dL_law_39 (by rw [n9]; decide) (by rw [n9]; decide) (by rw [n9]; decide) (by decide) ?_
        exact b_L_law_847 C hok hS ih x0 x1 x2 x3 x4 h H locs cells slots ls hH hL (lv_sub hl [0, 1, 2, 3, 4] rfl) hrun
      have hrun := ite_f hrun n9
      by_cases n10 : v570 = (10 : Int32)
      · have hrun := ite_t hrun n10
        refine lv_tableIn (pc := 39) (off := 875) (tgt := 914) hx hb dL_law_39 (by rw [n10]; decide) (by rw [n10]; decide) (by rw [n10]; decide) (by decide) ?_
        exact b_L_law_914 C hok hS ih x0 x1 x2 x3 x4 h H locs cells slots ls hH hL (lv_sub hl [0, 1, 2, 3, 4] rfl) hrun
      have hrun := ite_f hrun n10
      by_cases n11 : v570 = (11 : Int32)
      · have hrun := ite_t hrun n11
        refine lv_tableIn (pc := 39) (off := 943) (tgt := 982) hx hb dL_law_39 (by rw [n11]; decide) (by rw [n11]; decide) (by rw [n11]; decide) (by decide) ?_
        exact b_L_law_982 C hok hS ih x0 x1 x2 x3 x4 h H locs cells slots ls hH hL (lv_sub hl [0, 1, 2, 3, 4] rfl) hrun
      have hrun := ite_f hrun n11
      by_cases n12 : v570 = (12 : Int32)
      · have hrun := ite_t hrun n12
        refine lv_tableIn (pc := 39) (off := 1034) (tgt := 1073) hx hb dL_law_39 (by rw [n12]; decide) (by rw [n12]; decide) (by rw [n12]; decide) (by decide) ?_
        exact b_L_law_1073 C hok hS ih x0 x1 x2 x3 x4 h H locs cells slots ls hH hL (lv_sub hl [0, 1, 2, 3, 4] rfl) hrun
      have hrun := ite_f hrun n12
      by_cases n13 : v570 = (13 : Int32)
      · have hrun := ite_t hrun n13
        refine lv_tableIn (pc := 39) (off := 1125) (tgt := 1164) hx hb dL_law_39 (by rw [n13]; decide) (by rw [n13]; decide) (by rw [n13]; decide) (by decide) ?_
        exact b_L_law_1164 C hok hS ih x0 x1 x2 x3 x4 h H locs cells slots ls hH hL (lv_sub hl [0, 1, 2, 3, 4] rfl) hrun
      have hrun := ite_f hrun n13
      by_cases n14 : v570 = (14 : Int32)
      · have hrun := ite_t hrun n14
        refine lv_tableIn (pc := 39) (off := 1188) (tgt := 1227) hx hb dL_law_39 (by rw [n14]; decide) (by rw [n14]; decide) (by rw [n14]; decide) (by decide) ?_
        exact b_L_law_1227 C hok hS ih x0 x1 x2 x3 x4 h H locs cells slots ls hH hL (lv_sub hl [0, 1, 2, 3, 4] rfl) hrun
      have hrun := ite_f hrun n14
      by_cases n15 : v570 = (15 : Int32)
      · have hrun := ite_t hrun n15
        refine lv_tableIn (pc := 39) (off := 1244) (tgt := 1283) hx hb dL_law_39 (by rw [n15]; decide) (by rw [n15]; decide) (by rw [n15]; decide) (by decide) ?_
        exact b_L_law_1283 C hok hS ih x0 x1 x2 x3 x4 h H locs cells slots ls hH hL (lv_sub hl [0, 1, 2, 3, 4] rfl) hrun
      have hrun := ite_f hrun n15
      by_cases n16 : v570 = (16 : Int32)
      · have hrun := ite_t hrun n16
        refine lv_tableIn (pc := 39) (off := 1312) (tgt := 1351) hx hb dL_law_39 (by rw [n16]; decide) (by rw [n16]; decide) (by rw [n16]; decide) (by decide) ?_
        exact b_L_law_1351 C hok hS ih x0 x1 x2 x3 x4 h H locs cells slots ls hH hL (lv_sub hl [0, 1, 2, 3, 4] rfl) hrun
      have hrun := ite_f hrun n16
      by_cases n17 : v570 = (17 : Int32)
      · have hrun := ite_t hrun n17
        refine lv_tableIn (pc := 39) (off := 1368) (tgt := 1407) hx hb dL_law_39 (by rw [n17]; decide) (by rw [n17]; decide) (by rw [n17]; decide) (by decide) ?_
        exact b_L_law_1407 C hok hS ih x0 x1 x2 x3 x4 h H locs cells slots ls hH hL (lv_sub hl [0, 1, 2, 3, 4] rfl) hrun
      have hrun := ite_f hrun n17
      by_cases n18 : v570 = (18 : Int32)
      · have hrun := ite_t hrun n18
        refine lv_tableIn (pc := 39) (off := 1436) (tgt := 1475) hx hb dL_law_39 (by rw [n18]; decide) (by rw [n18]; decide) (by rw [n18]; decide) (by decide) ?_
        exact b_L_law_1475 C hok hS ih x0 x1 x2 x3 x4 h H locs cells slots ls hH hL (lv_sub hl [0, 1, 2, 3, 4] rfl) hrun
      have hrun := ite_f hrun n18
      by_cases n19 : v570 = (19 : Int32)
      · have hrun := ite_t hrun n19
        refine lv_tableIn (pc := 39) (off := 1503) (tgt := 1542) hx hb dL_law_39 (by rw [n19]; decide) (by rw [n19]; decide) (by rw [n19]; decide) (by decide) ?_
        exact b_L_law_1542 C hok hS ih x0 x1 x2 x3 x4 h H locs cells slots ls hH hL (lv_sub hl [0, 1, 2, 3, 4] rfl) hrun
      have hrun := ite_f hrun n19
      by_cases n20 : v570 = (20 : Int32)
      · have hrun := ite_t hrun n20
        refine lv_tableIn (pc := 39) (off := 1558) (tgt := 1597) hx hb dL_law_39 (by rw [n20]; decide) (by rw [n20]; decide) (by rw [n20]; decide) (by decide) ?_
        exact b_L_law_1597 C hok hS ih x0 x1 x2 x3 x4 h H locs cells slots ls hH hL (lv_sub hl [0, 1, 2, 3, 4] rfl) hrun
      have hrun := ite_f hrun n20
      by_cases n21 : v570 = (21 : Int32)
      · have hrun := ite_t hrun n21
        refine lv_tableIn (pc := 39) (off := 1625) (tgt := 1664) hx hb dL_law_39 (by rw [n21]; decide) (by rw [n21]; decide) (by rw [n21]; decide) (by decide) ?_
        exact b_L_law_1664 C hok hS ih x0 x1 x2 x3 x4 h H locs cells slots ls hH hL (lv_sub hl [0, 1, 2, 3, 4] rfl) hrun
      have hrun := ite_f hrun n21
      by_cases n22 : v570 = (22 : Int32)
      · have hrun := ite_t hrun n22
        refine lv_tableIn (pc := 39) (off := 1705) (tgt := 1744) hx hb dL_law_39 (by rw [n22]; decide) (by rw [n22]; decide) (by rw [n22]; decide) (by decide) ?_
        exact b_L_law_1744 C hok hS ih x0 x1 x2 x3 x4 h H locs cells slots ls hH hL (lv_sub hl [0, 1, 2, 3, 4] rfl) hrun
      have hrun := ite_f hrun n22
      by_cases n23 : v570 = (23 : Int32)
      · have hrun := ite_t hrun n23
        refine lv_tableIn (pc := 39) (off := 1749) (tgt := 1788) hx hb dL_law_39 (by rw [n23]; decide) (by rw [n23]; decide) (by rw [n23]; decide) (by decide) ?_
        exact b_L_law_1788 C hok hS ih x0 x1 x2 x3 x4 h H locs cells slots ls hH hL (lv_sub hl [0, 1, 2, 3, 4] rfl) hrun
      have hrun := ite_f hrun n23
      by_cases n24 : v570 = (24 : Int32)
      · have hrun := ite_t hrun n24
        refine lv_tableIn (pc := 39) (off := 1833) (tgt := 1872) hx hb dL_law_39 (by rw [n24]; decide) (by rw [n24]; decide) (by rw [n24]; decide) (by decide) ?_
        exact b_L_law_1872 C hok hS ih x0 x1 x2 x3 x4 h H locs cells slots ls hH hL (lv_sub hl [0, 1, 2, 3, 4] rfl) hrun
      have hrun := ite_f hrun n24
      by_cases n25 : v570 = (25 : Int32)
      · have hrun := ite_t hrun n25
        refine lv_tableIn (pc := 39) (off := 1901) (tgt := 1940) hx hb dL_law_39 (by rw [n25]; decide) (by rw [n25]; decide) (by rw [n25]; decide) (by decide) ?_
        exact b_L_law_1940 C hok hS ih x0 x1 x2 x3 x4 h H locs cells slots ls hH hL (lv_sub hl [0, 1, 2, 3, 4] rfl) hrun
      have hrun := ite_f hrun n25
      by_cases n26 : v570 = (26 : Int32)
      · have hrun := ite_t hrun n26
        refine lv_tableIn (pc := 39) (off := 1956) (tgt := 1995) hx hb dL_law_39 (by rw [n26]; decide) (by rw [n26]; decide) (by rw [n26]; decide) (by decide) ?_
        exact b_L_law_1995 C hok hS ih x0 x1 x2 x3 x4 h H locs cells slots ls hH hL (lv_sub hl [0, 1, 2, 3, 4] rfl) hrun
      have hrun := ite_f hrun n26
      by_cases n27 : v570 = (27 : Int32)
      · have hrun := ite_t hrun n27
        refine lv_tableIn (pc := 39) (off := 2036) (tgt := 2075) hx hb dL_law_39 (by rw [n27]; decide) (by rw [n27]; decide) (by rw [n27]; decide) (by decide) ?_
        exact b_L_law_2075 C hok hS ih x0 x1 x2 x3 x4 h H locs cells slots ls hH hL (lv_sub hl [0, 1, 2, 3, 4] rfl) hrun
      have hrun := ite_f hrun n27
      by_cases n28 : v570 = (28 : Int32)
      · have hrun := ite_t hrun n28
        refine lv_tableIn (pc := 39) (off := 2116) (tgt := 2155) hx hb dL_law_39 (by rw [n28]; decide) (by rw [n28]; decide) (by rw [n28]; decide) (by decide) ?_
        exact b_L_law_2155 C hok hS ih x0 x1 x2 x3 x4 h H locs cells slots ls hH hL (lv_sub hl [0, 1, 2, 3, 4] rfl) hrun
      have hrun := ite_f hrun n28
      by_cases n29 : v570 = (29 : Int32)
      · have hrun := ite_t hrun n29
        refine lv_tableIn (pc := 39) (off := 2208) (tgt := 2247) hx hb dL_law_39 (by rw [n29]; decide) (by rw [n29]; decide) (by rw [n29]; decide) (by decide) ?_
        exact b_L_law_2247 C hok hS ih x0 x1 x2 x3 x4 h H locs cells slots ls hH hL (lv_sub hl [0, 1, 2, 3, 4] rfl) hrun
      have hrun := ite_f hrun n29
      by_cases n30 : v570 = (30 : Int32)
      · have hrun := ite_t hrun n30
        refine lv_tableIn (pc := 39) (off := 2276) (tgt := 2315) hx hb dL_law_39 (by rw [n30]; decide) (by rw [n30]; decide) (by rw [n30]; decide) (by decide) ?_
        exact b_L_law_2315 C hok hS ih x0 x1 x2 x3 x4 h H locs cells slots ls hH hL (lv_sub hl [0, 1, 2, 3, 4] rfl) hrun
      have hrun := ite_f hrun n30
      by_cases n31 : v570 = (31 : Int32)
      · have hrun := ite_t hrun n31
        refine lv_tableIn (pc := 39) (off := 2344) (tgt := 2383) hx hb dL_law_39 (by rw [n31]; decide) (by rw [n31]; decide) (by rw [n31]; decide) (by decide) ?_
        exact b_L_law_2383 C hok hS ih x0 x1 x2 x3 x4 h H locs cells slots ls hH hL (lv_sub hl [0, 1, 2, 3, 4] rfl) hrun
      have hrun := ite_f hrun n31
      by_cases n32 : v570 = (32 : Int32)
      · have hrun := ite_t hrun n32
        refine lv_tableIn (pc := 39) (off := 2412) (tgt := 2451) hx hb dL_law_39 (by rw [n32]; decide) (by rw [n32]; decide) (by rw [n32]; decide) (by decide) ?_
        exact b_L_law_2451 C hok hS ih x0 x1 x2 x3 x4 h H locs cells slots ls hH hL (lv_sub hl [0, 1, 2, 3, 4] rfl) hrun
      have hrun := ite_f hrun n32
      by_cases n33 : v570 = (33 : Int32)
      · have hrun := ite_t hrun n33
        refine lv_tableIn (pc := 39) (off := 2480) (tgt := 2519) hx hb dL_law_39 (by rw [n33]; decide) (by rw [n33]; decide) (by rw [n33]; decide) (by decide) ?_
        exact b_L_law_2519 C hok hS ih x0 x1 x2 x3 x4 h H locs cells slots ls hH hL (lv_sub hl [0, 1, 2, 3, 4] rfl) hrun
      have hrun := ite_f hrun n33
      by_cases n34 : v570 = (34 : Int32)
      · have hrun := ite_t hrun n34
        refine lv_tableIn (pc := 39) (off := 2536) (tgt := 2575) hx hb dL_law_39 (by rw [n34]; decide) (by rw [n34]; decide) (by rw [n34]; decide) (by decide) ?_
        exact b_L_law_2575 C hok hS ih x0 x1 x2 x3 x4 h H locs cells slots ls hH hL (lv_sub hl [0, 1, 2, 3, 4] rfl) hrun
      have hrun := ite_f hrun n34
      by_cases n35 : v570 = (35 : Int32)
      · have hrun := ite_t hrun n35
        refine lv_tableIn (pc := 39) (off := 2620) (tgt := 2659) hx hb dL_law_39 (by rw [n35]; decide) (by rw [n35]; decide) (by rw [n35]; decide) (by decide) ?_
        exact b_L_law_2659 C hok hS ih x0 x1 x2 x3 x4 h H locs cells slots ls hH hL (lv_sub hl [0, 1, 2, 3, 4] rfl) hrun
      have hrun := ite_f hrun n35
      by_cases n36 : v570 = (36 : Int32)
      · have hrun := ite_t hrun n36
        refine lv_tableIn (pc := 39) (off := 2704) (tgt := 2743) hx hb dL_law_39 (by rw [n36]; decide) (by rw [n36]; decide) (by rw [n36]; decide) (by decide) ?_
        exact b_L_law_2743 C hok hS ih x0 x1 x2 x3 x4 h H locs cells slots ls hH hL (lv_sub hl [0, 1, 2, 3, 4] rfl) hrun
      have hrun := ite_f hrun n36
      by_cases n37 : v570 = (37 : Int32)
      · have hrun := ite_t hrun n37
        refine lv_tableIn (pc := 39) (off := 2767) (tgt := 2806) hx hb dL_law_39 (by rw [n37]; decide) (by rw [n37]; decide) (by rw [n37]; decide) (by decide) ?_
        exact b_L_law_2806 C hok hS ih x0 x1 x2 x3 x4 h H locs cells slots ls hH hL (lv_sub hl [0, 1, 2, 3, 4] rfl) hrun
      have hrun := ite_f hrun n37
      by_cases n38 : v570 = (38 : Int32)
      · have hrun := ite_t hrun n38
        refine lv_tableIn (pc := 39) (off := 2810) (tgt := 2849) hx hb dL_law_39 (by rw [n38]; decide) (by rw [n38]; decide) (by rw [n38]; decide) (by decide) ?_
        exact b_L_law_2849 C hok hS ih x0 x1 x2 x3 x4 h H locs cells slots ls hH hL (lv_sub hl [0, 1, 2, 3, 4] rfl) hrun
      have hrun := ite_f hrun n38
      by_cases n39 : v570 = (39 : Int32)
      · have hrun := ite_t hrun n39
        refine lv_tableIn (pc := 39) (off := 2906) (tgt := 2945) hx hb dL_law_39 (by rw [n39]; decide) (by rw [n39]; decide) (by rw [n39]; decide) (by decide) ?_
        exact b_L_law_2945 C hok hS ih x0 x1 x2 x3 x4 h H locs cells slots ls hH hL (lv_sub hl [0, 1, 2, 3, 4] rfl) hrun
      have hrun := ite_f hrun n39
      by_cases n40 : v570 = (40 : Int32)
      · have hrun := ite_t hrun n40
        refine lv_tableIn (pc := 39) (off := 2962) (tgt := 3001) hx hb dL_law_39 (by rw [n40]; decide) (by rw [n40]; decide) (by rw [n40]; decide) (by decide) ?_
        exact b_L_law_3001 C hok hS ih x0 x1 x2 x3 x4 h H locs cells slots ls hH hL (lv_sub hl [0, 1, 2, 3, 4] rfl) hrun
      have hrun := ite_f hrun n40
      by_cases n41 : v570 = (41 : Int32)
      · have hrun := ite_t hrun n41
        refine lv_tableIn (pc := 39) (off := 3005) (tgt := 3044) hx hb dL_law_39 (by rw [n41]; decide) (by rw [n41]; decide) (by rw [n41]; decide) (by decide) ?_
        exact b_L_law_3044 C hok hS ih x0 x1 x2 x3 x4 h H locs cells slots ls hH hL (lv_sub hl [0, 1, 2, 3, 4] rfl) hrun
      have hrun := ite_f hrun n41
      by_cases n42 : v570 = (42 : Int32)
      · have hrun := ite_t hrun n42
        refine lv_tableIn (pc := 39) (off := 3060) (tgt := 3099) hx hb dL_law_39 (by rw [n42]; decide) (by rw [n42]; decide) (by rw [n42]; decide) (by decide) ?_
        exact b_L_law_3099 C hok hS ih x0 x1 x2 x3 x4 h H locs cells slots ls hH hL (lv_sub hl [0, 1, 2, 3, 4] rfl) hrun
      have hrun := ite_f hrun n42
      by_cases n43 : v570 = (43 : Int32)
      · have hrun := ite_t hrun n43
        refine lv_tableIn (pc := 39) (off := 3115) (tgt := 3154) hx hb dL_law_39 (by rw [n43]; decide) (by rw [n43]; decide) (by rw [n43]; decide) (by decide) ?_
        exact b_L_law_3154 C hok hS ih x0 x1 x2 x3 x4 h H locs cells slots ls hH hL (lv_sub hl [0, 1, 2, 3, 4] rfl) hrun
      have hrun := ite_f hrun n43
      by_cases n44 : v570 = (44 : Int32)
      · have hrun := ite_t hrun n44
        refine lv_tableIn (pc := 39) (off := 3171) (tgt := 3210) hx hb dL_law_39 (by rw [n44]; decide) (by rw [n44]; decide) (by rw [n44]; decide) (by decide) ?_
        exact b_L_law_3210 C hok hS ih x0 x1 x2 x3 x4 h H locs cells slots ls hH hL (lv_sub hl [0, 1, 2, 3, 4] rfl) hrun
      have hrun := ite_f hrun n44
      by_cases n45 : v570 = (45 : Int32)
      · have hrun := ite_t hrun n45
        refine lv_tableIn (pc := 39) (off := 3184) (tgt := 3223) hx hb dL_law_39 (by rw [n45]; decide) (by rw [n45]; decide) (by rw [n45]; decide) (by decide) ?_
        exact b_L_law_3223 C hok hS ih x0 x1 x2 x3 x4 h H locs cells slots ls hH hL (lv_sub hl [0, 1, 2, 3, 4] rfl) hrun
      have hrun := ite_f hrun n45
      by_cases n46 : v570 = (46 : Int32)
      · have hrun := ite_t hrun n46
        refine lv_tableIn (pc := 39) (off := 3197) (tgt := 3236) hx hb dL_law_39 (by rw [n46]; decide) (by rw [n46]; decide) (by rw [n46]; decide) (by decide) ?_
        exact b_L_law_3236 C hok hS ih x0 x1 x2 x3 x4 h H locs cells slots ls hH hL (lv_sub hl [0, 1, 2, 3, 4] rfl) hrun
      have hrun := ite_f hrun n46
      refine lv_tableOut (pc := 39) (tgt := 3277) hx hb dL_law_39 (sw_out [0, 1, 2, 3, 4, 5, 6, 7, 8, 9, 10, 11, 12, 13, 14, 15, 16, 17, 18, 19, 20, 21, 22, 23, 24, 25, 26, 27, 28, 29, 30, 31, 32, 33, 34, 35, 36, 37, 38, 39, 40, 41, 42, 43, 44, 45, 46] (by decide) (by decide) ⟨by decide, by decide⟩ (List.forall_mem_cons.mpr ⟨sw_ne (v := (0 : Int32)) (by decide) n0, (List.forall_mem_cons.mpr ⟨sw_ne (v := (1 : Int32)) (by decide) n1, (List.forall_mem_cons.mpr ⟨sw_ne (v := (2 : Int32)) (by decide) n2, (List.forall_mem_cons.mpr ⟨sw_ne (v := (3 : Int32)) (by decide) n3, (List.forall_mem_cons.mpr ⟨sw_ne (v := (4 : Int32)) (by decide) n4, (List.forall_mem_cons.mpr ⟨sw_ne (v := (5 : Int32)) (by decide) n5, (List.forall_mem_cons.mpr ⟨sw_ne (v := (6 : Int32)) (by decide) n6, (List.forall_mem_cons.mpr ⟨sw_ne (v := (7 : Int32)) (by decide) n7, (List.forall_mem_cons.mpr ⟨sw_ne (v := (8 : Int32)) (by decide) n8, (List.forall_mem_cons.mpr ⟨sw_ne (v := (9 : Int32)) (by decide) n9, (List.forall_mem_cons.mpr ⟨sw_ne (v := (10 : Int32)) (by decide) n10, (List.forall_mem_cons.mpr ⟨sw_ne (v := (11 : Int32)) (by decide) n11, (List.forall_mem_cons.mpr ⟨sw_ne (v := (12 : Int32)) (by decide) n12, (List.forall_mem_cons.mpr ⟨sw_ne (v := (13 : Int32)) (by decide) n13, (List.forall_mem_cons.mpr ⟨sw_ne (v := (14 : Int32)) (by decide) n14, (List.forall_mem_cons.mpr ⟨sw_ne (v := (15 : Int32)) (by decide) n15, (List.forall_mem_cons.mpr ⟨sw_ne (v := (16 : Int32)) (by decide) n16, (List.forall_mem_cons.mpr ⟨sw_ne (v := (17 : Int32)) (by decide) n17, (List.forall_mem_cons.mpr ⟨sw_ne (v := (18 : Int32)) (by decide) n18, (List.forall_mem_cons.mpr ⟨sw_ne (v := (19 : Int32)) (by decide) n19, (List.forall_mem_cons.mpr ⟨sw_ne (v := (20 : Int32)) (by decide) n20, (List.forall_mem_cons.mpr ⟨sw_ne (v := (21 : Int32)) (by decide) n21, (List.forall_mem_cons.mpr ⟨sw_ne (v := (22 : Int32)) (by decide) n22, (List.forall_mem_cons.mpr ⟨sw_ne (v := (23 : Int32)) (by decide) n23, (List.forall_mem_cons.mpr ⟨sw_ne (v := (24 : Int32)) (by decide) n24, (List.forall_mem_cons.mpr ⟨sw_ne (v := (25 : Int32)) (by decide) n25, (List.forall_mem_cons.mpr ⟨sw_ne (v := (26 : Int32)) (by decide) n26, (List.forall_mem_cons.mpr ⟨sw_ne (v := (27 : Int32)) (by decide) n27, (List.forall_mem_cons.mpr ⟨sw_ne (v := (28 : Int32)) (by decide) n28, (List.forall_mem_cons.mpr ⟨sw_ne (v := (29 : Int32)) (by decide) n29, (List.forall_mem_cons.mpr ⟨sw_ne (v := (30 : Int32)) (by decide) n30, (List.forall_mem_cons.mpr ⟨sw_ne (v := (31 : Int32)) (by decide) n31, (List.forall_mem_cons.mpr ⟨sw_ne (v := (32 : Int32)) (by decide) n32, (List.forall_mem_cons.mpr ⟨sw_ne (v := (33 : Int32)) (by decide) n33, (List.forall_mem_cons.mpr ⟨sw_ne (v := (34 : Int32)) (by decide) n34, (List.forall_mem_cons.mpr ⟨sw_ne (v := (35 : Int32)) (by decide) n35, (List.forall_mem_cons.mpr ⟨sw_ne (v := (36 : Int32)) (by decide) n36, (List.forall_mem_cons.mpr ⟨sw_ne (v := (37 : Int32)) (by decide) n37, (List.forall_mem_cons.mpr ⟨sw_ne (v := (38 : Int32)) (by decide) n38, (List.forall_mem_cons.mpr ⟨sw_ne (v := (39 : Int32)) (by decide) n39, (List.forall_mem_cons.mpr ⟨sw_ne (v := (40 : Int32)) (by decide) n40, (List.forall_mem_cons.mpr ⟨sw_ne (v := (41 : Int32)) (by decide) n41, (List.forall_mem_cons.mpr ⟨sw_ne (v := (42 : Int32)) (by decide) n42, (List.forall_mem_cons.mpr ⟨sw_ne (v := (43 : Int32)) (by decide) n43, (List.forall_mem_cons.mpr ⟨sw_ne (v := (44 : Int32)) (by decide) n44, (List.forall_mem_cons.mpr ⟨sw_ne (v := (45 : Int32)) (by decide) n45, (List.forall_mem_cons.mpr ⟨sw_ne (v := (46 : Int32)) (by decide) n46, (fun _ z => nomatch z)⟩)⟩)⟩)⟩)⟩)⟩)⟩)⟩)⟩)⟩)⟩)⟩)⟩)⟩)⟩)⟩)⟩)⟩)⟩)⟩)⟩)⟩)⟩)⟩)⟩)⟩)⟩)⟩)⟩)⟩)⟩)⟩)⟩)⟩)⟩)⟩)⟩)⟩)⟩)⟩)⟩)⟩)⟩)⟩)⟩)⟩)⟩)) (by decide) ?_
      exact b_L_law_3277 C hok hS ih x0 x1 x2 x3 x4 h H locs cells slots ls hH hL (lv_sub hl [0, 1, 2, 3, 4] rfl) hrun

theorem b_L_law {rr : (Int32 ⊕ Ex) × Hp}  {b L : Nat} {xs : Nat → Int32} {et9 : List (Nat × Nat × Nat × Nat)} (C : CX p l room_1 s m #[Value.ref b] meth c D s.heap cL_law "MassclaimLaw" 9 ret et9 8192 104096) (hok : rr.1 = .inl 1) (hS : va_X b L xs s s.heap ∧ b < s.heap.size)  : ∀ (x0 : Unit) (h : Hp) (H : Heap) (locs : List Loc) (cells slots : Nat) (ls : Array Slot), HP D s.heap h H → LO s.heap locs → lv_has ls 9 [(0, .ref b)] → f_L_law L xs x0 h = some rr → W p l e room_1 s m #[Value.ref b] below meth c H locs cells slots (lw_Z below #[Value.ref b] s) (F0 m 0 ls []) := by
  obtain ⟨⟨hx, hb, hml, hown, hts⟩, -⟩ := id C
  have hl9 := C.2.1.2.2.1
  intro x0 h H locs cells slots ls hH hL hl hrun
  unfold f_L_law at hrun
  refine V_new (pc := 0) C hH nl_X0_8 dL_law_0 hrun (fun q571 h572 H cells slots hH hrun => ?_)
  refine lv_dup (pc := 3) hx hb dL_law_3 (rv_cat _) ?_
  obtain ⟨c575, hrun⟩ := gd_some hrun
  refine V_bdN (pc := 4) hL hrun (fun rr1 e1 => Z_runI (rest := [rv q571]) C hH (m_X1_init hl9 e1) wI_X0_156 (hH.pos c575) rfl ⟨by decide, by decide⟩ rfl (by simp [csum, rv_cat, cat_i, cat_l, cat_f, cat_d]) hl.1 dL_law_4) (fun _ h574 H locs cells slots hH hL hrun => ?_)
  refine V_astore_n (i := 1) (lv' := [(1, rv q571), (0, .ref b)]) (pc := 7) hx hb dL_law_7 rfl hl (by decide) rfl (fun ls hl => ?_)
  refine V_new (pc := 8) C hH nl_X0_157 dL_law_8 hrun (fun q576 h577 H cells slots hH hrun => ?_)
  refine lv_dup (pc := 11) hx hb dL_law_11 (rv_cat _) ?_
  obtain ⟨c580, hrun⟩ := gd_some hrun
  refine V_bdN (pc := 12) hL hrun (fun rr1 e1 => Z_runI (rest := [rv q576]) C hH (m_X4_init hl9 e1) wI_X0_159 (hH.pos c580) rfl ⟨by decide, by decide⟩ rfl (by simp [csum, rv_cat, cat_i, cat_l, cat_f, cat_d]) hl.1 dL_law_12) (fun _ h579 H locs cells slots hH hL hrun => ?_)
  refine V_astore_n (i := 2) (lv' := [(2, rv q576), (1, rv q571), (0, .ref b)]) (pc := 15) hx hb dL_law_15 rfl hl (by decide) (by simp [rv_cat, cat_i, cat_l, cat_f, cat_d]) (fun ls hl => ?_)
  refine lv_iconst (v := (1 : Int32)) (pc := 16) hx hb dL_law_16 (by decide) ?_
  refine V_newa (at_ := .long) (pc := 17) C hH (Or.inr ⟨rfl, rfl⟩) q195 dL_law_17 hrun (fun q581 h582 H cells slots hH hrun => ?_)
  refine V_astore_n (i := 3) (lv' := [(3, rv q581), (2, rv q576), (1, rv q571), (0, .ref b)]) (pc := 19) hx hb dL_law_19 rfl hl (by decide) (by simp [rv_cat, cat_i, cat_l, cat_f, cat_d]) (fun ls hl => ?_)
  refine lv_iconst (v := (0 : Int32)) (pc := 20) hx hb dL_law_20 (by decide) ?_
  refine lv_istore (i := 4) (lv' := [(4, .int (0 : Int32)), (3, rv q581), (2, rv q576), (1, rv q571), (0, .ref b)]) (pc := 21) hx hb dL_law_21 hl (by decide) (by simp [rv_cat, cat_i, cat_l, cat_f, cat_d]) (fun ls hl => ?_)
  exact b_L_law_23 C hok hS FU x0 q571 q576 q581 (0 : Int32) h582 H locs cells slots ls hH hL (lv_sub hl [4, 3, 2, 1, 0] rfl) hrun
end WKL
