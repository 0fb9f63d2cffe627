set_option maxRecDepth 100000
theorem q311 : (Jvm.Cond.initialized "SchemaWorkshopModel") ∈ lw_all := lw_g (lw_at lw_m1 14 rfl) rfl
theorem q2364 : (Jvm.Cond.instantiable "SchemaWorkshopModel" (163 : Nat)) ∈ lw_all := lw_g (lw_at lw_m9 147 rfl) rfl
theorem q2366 : (Jvm.Cond.instanceMethod ({ cls := "SchemaWorkshopModel", name := "<init>", desc := "()V" } : Jvm.MethodName)) ∈ lw_all := lw_g (lw_at lw_m9 149 rfl) rfl
theorem q2367 : (Jvm.Cond.code ({ cls := "SchemaWorkshopModel", name := "<init>", desc := "()V" } : Jvm.MethodName) prog_15_method_1_code (1 : Nat) (Option.none : Option Jvm.ClassFile.FieldType)) ∈ lw_all := lw_g (lw_at lw_m9 150 rfl) rfl
theorem q2368 : (Jvm.Cond.methodLink "SchemaWorkshopModel" (1 : Nat) ({ cls := "java/lang/Object", name := "<init>", desc := "()V" } : Jvm.MethodName)) ∈ lw_all := lw_g (lw_at lw_m9 151 rfl) rfl
theorem q2369 : (Jvm.Cond.constant "SchemaWorkshopModel" (19 : Nat) (32800 : Int32)) ∈ lw_all := lw_g (lw_at lw_m9 152 rfl) rfl
theorem q2370 : (Jvm.Cond.fieldLink "SchemaWorkshopModel" (7 : Nat) "SchemaWorkshopModel" "wordChars" "[I") ∈ lw_all := lw_g (lw_at lw_m9 153 rfl) rfl
theorem q2371 : (Jvm.Cond.fieldLink "SchemaWorkshopModel" (13 : Nat) "SchemaWorkshopModel" "strange" "[I") ∈ lw_all := lw_g (lw_at lw_m9 154 rfl) rfl
theorem q2372 : (Jvm.Cond.fieldLink "SchemaWorkshopModel" (16 : Nat) "SchemaWorkshopModel" "universal" "[I") ∈ lw_all := lw_g (lw_at lw_m9 155 rfl) rfl
theorem q2373 : (Jvm.Cond.fieldLink "SchemaWorkshopModel" (350 : Nat) "SchemaWorkshopModel" "thrown" "I") ∈ lw_all := lw_g (lw_at lw_m9 156 rfl) rfl
theorem q2374 : (Jvm.Cond.fieldLink "SchemaWorkshopModel" (380 : Nat) "SchemaWorkshopModel" "size" "I") ∈ lw_all := lw_g (lw_at lw_m9 157 rfl) rfl
theorem q2375 : (Jvm.Cond.fieldLink "SchemaWorkshopModel" (20 : Nat) "SchemaWorkshopModel" "tape" "[I") ∈ lw_all := lw_g (lw_at lw_m9 158 rfl) rfl
theorem q2376 : (Jvm.Cond.fieldLink "SchemaWorkshopModel" (23 : Nat) "SchemaWorkshopModel" "limit" "I") ∈ lw_all := lw_g (lw_at lw_m9 159 rfl) rfl
theorem q2377 : (Jvm.Cond.fieldLink "SchemaWorkshopModel" (817 : Nat) "SchemaWorkshopModel" "isMade" "Z") ∈ lw_all := lw_g (lw_at lw_m9 160 rfl) rfl
theorem q2378 : (Jvm.Cond.fieldLink "SchemaWorkshopModel" (353 : Nat) "SchemaWorkshopModel" "fault" "I") ∈ lw_all := lw_g (lw_at lw_m9 161 rfl) rfl
theorem q2379 : (Jvm.Cond.fieldLink "SchemaWorkshopModel" (356 : Nat) "SchemaWorkshopModel" "place" "I") ∈ lw_all := lw_g (lw_at lw_m9 162 rfl) rfl
theorem q2380 : (Jvm.Cond.fieldLink "SchemaWorkshopModel" (997 : Nat) "SchemaWorkshopModel" "elementsRead" "I") ∈ lw_all := lw_g (lw_at lw_m9 163 rfl) rfl
theorem q2381 : (Jvm.Cond.fieldLink "SchemaWorkshopModel" (1000 : Nat) "SchemaWorkshopModel" "outSize" "I") ∈ lw_all := lw_g (lw_at lw_m9 164 rfl) rfl
theorem q2382 : (Jvm.Cond.fieldLink "SchemaWorkshopModel" (27 : Nat) "SchemaWorkshopModel" "out" "[I") ∈ lw_all := lw_g (lw_at lw_m9 165 rfl) rfl
theorem q2383 : (Jvm.Cond.fieldLink "SchemaWorkshopModel" (359 : Nat) "SchemaWorkshopModel" "textSize" "I") ∈ lw_all := lw_g (lw_at lw_m9 166 rfl) rfl
theorem q2384 : (Jvm.Cond.fieldLink "SchemaWorkshopModel" (30 : Nat) "SchemaWorkshopModel" "text" "[I") ∈ lw_all := lw_g (lw_at lw_m9 167 rfl) rfl
theorem q2385 : (Jvm.Cond.fieldLink "SchemaWorkshopModel" (367 : Nat) "SchemaWorkshopModel" "lexemes" "I") ∈ lw_all := lw_g (lw_at lw_m9 168 rfl) rfl
theorem q2386 : (Jvm.Cond.fieldLink "SchemaWorkshopModel" (33 : Nat) "SchemaWorkshopModel" "lexKind" "[I") ∈ lw_all := lw_g (lw_at lw_m9 169 rfl) rfl
theorem q2387 : (Jvm.Cond.fieldLink "SchemaWorkshopModel" (36 : Nat) "SchemaWorkshopModel" "lexFrom" "[I") ∈ lw_all := lw_g (lw_at lw_m9 170 rfl) rfl
theorem q2388 : (Jvm.Cond.fieldLink "SchemaWorkshopModel" (39 : Nat) "SchemaWorkshopModel" "lexTo" "[I") ∈ lw_all := lw_g (lw_at lw_m9 171 rfl) rfl
theorem q2389 : (Jvm.Cond.fieldLink "SchemaWorkshopModel" (442 : Nat) "SchemaWorkshopModel" "at" "I") ∈ lw_all := lw_g (lw_at lw_m9 172 rfl) rfl
theorem q2390 : (Jvm.Cond.fieldLink "SchemaWorkshopModel" (517 : Nat) "SchemaWorkshopModel" "types" "I") ∈ lw_all := lw_g (lw_at lw_m9 173 rfl) rfl
theorem q2391 : (Jvm.Cond.fieldLink "SchemaWorkshopModel" (42 : Nat) "SchemaWorkshopModel" "tBase" "[I") ∈ lw_all := lw_g (lw_at lw_m9 174 rfl) rfl
theorem q2392 : (Jvm.Cond.fieldLink "SchemaWorkshopModel" (45 : Nat) "SchemaWorkshopModel" "tFirst" "[I") ∈ lw_all := lw_g (lw_at lw_m9 175 rfl) rfl
theorem q2393 : (Jvm.Cond.fieldLink "SchemaWorkshopModel" (48 : Nat) "SchemaWorkshopModel" "tTags" "[I") ∈ lw_all := lw_g (lw_at lw_m9 176 rfl) rfl
theorem q2394 : (Jvm.Cond.fieldLink "SchemaWorkshopModel" (51 : Nat) "SchemaWorkshopModel" "tTagCount" "[I") ∈ lw_all := lw_g (lw_at lw_m9 177 rfl) rfl
theorem q2395 : (Jvm.Cond.fieldLink "SchemaWorkshopModel" (54 : Nat) "SchemaWorkshopModel" "tRef" "[I") ∈ lw_all := lw_g (lw_at lw_m9 178 rfl) rfl
theorem q2396 : (Jvm.Cond.fieldLink "SchemaWorkshopModel" (57 : Nat) "SchemaWorkshopModel" "tItems" "[I") ∈ lw_all := lw_g (lw_at lw_m9 179 rfl) rfl
theorem q2397 : (Jvm.Cond.fieldLink "SchemaWorkshopModel" (60 : Nat) "SchemaWorkshopModel" "tItemCount" "[I") ∈ lw_all := lw_g (lw_at lw_m9 180 rfl) rfl
theorem q2398 : (Jvm.Cond.fieldLink "SchemaWorkshopModel" (63 : Nat) "SchemaWorkshopModel" "tChild" "[I") ∈ lw_all := lw_g (lw_at lw_m9 181 rfl) rfl
theorem q2399 : (Jvm.Cond.fieldLink "SchemaWorkshopModel" (66 : Nat) "SchemaWorkshopModel" "tChildCount" "[I") ∈ lw_all := lw_g (lw_at lw_m9 182 rfl) rfl
theorem q2400 : (Jvm.Cond.fieldLink "SchemaWorkshopModel" (69 : Nat) "SchemaWorkshopModel" "tElement" "[I") ∈ lw_all := lw_g (lw_at lw_m9 183 rfl) rfl
theorem q2401 : (Jvm.Cond.fieldLink "SchemaWorkshopModel" (72 : Nat) "SchemaWorkshopModel" "tLimit" "[I") ∈ lw_all := lw_g (lw_at lw_m9 184 rfl) rfl
theorem q2402 : (Jvm.Cond.fieldLink "SchemaWorkshopModel" (520 : Nat) "SchemaWorkshopModel" "tags" "I") ∈ lw_all := lw_g (lw_at lw_m9 185 rfl) rfl
theorem q2403 : (Jvm.Cond.fieldLink "SchemaWorkshopModel" (75 : Nat) "SchemaWorkshopModel" "gBracket" "[I") ∈ lw_all := lw_g (lw_at lw_m9 186 rfl) rfl
theorem q2404 : (Jvm.Cond.fieldLink "SchemaWorkshopModel" (78 : Nat) "SchemaWorkshopModel" "gClass" "[I") ∈ lw_all := lw_g (lw_at lw_m9 187 rfl) rfl
theorem q2405 : (Jvm.Cond.fieldLink "SchemaWorkshopModel" (81 : Nat) "SchemaWorkshopModel" "gNumber" "[I") ∈ lw_all := lw_g (lw_at lw_m9 188 rfl) rfl
theorem q2406 : (Jvm.Cond.fieldLink "SchemaWorkshopModel" (84 : Nat) "SchemaWorkshopModel" "gHow" "[I") ∈ lw_all := lw_g (lw_at lw_m9 189 rfl) rfl
theorem q2407 : (Jvm.Cond.fieldLink "SchemaWorkshopModel" (562 : Nat) "SchemaWorkshopModel" "items" "I") ∈ lw_all := lw_g (lw_at lw_m9 190 rfl) rfl
theorem q2408 : (Jvm.Cond.fieldLink "SchemaWorkshopModel" (87 : Nat) "SchemaWorkshopModel" "iName" "[I") ∈ lw_all := lw_g (lw_at lw_m9 191 rfl) rfl
theorem q2409 : (Jvm.Cond.fieldLink "SchemaWorkshopModel" (90 : Nat) "SchemaWorkshopModel" "iLex" "[I") ∈ lw_all := lw_g (lw_at lw_m9 192 rfl) rfl
theorem q2410 : (Jvm.Cond.fieldLink "SchemaWorkshopModel" (93 : Nat) "SchemaWorkshopModel" "iMinus" "[Z") ∈ lw_all := lw_g (lw_at lw_m9 193 rfl) rfl
theorem q2411 : (Jvm.Cond.fieldLink "SchemaWorkshopModel" (97 : Nat) "SchemaWorkshopModel" "iNumber" "[I") ∈ lw_all := lw_g (lw_at lw_m9 194 rfl) rfl
theorem q2412 : (Jvm.Cond.fieldLink "SchemaWorkshopModel" (559 : Nat) "SchemaWorkshopModel" "components" "I") ∈ lw_all := lw_g (lw_at lw_m9 195 rfl) rfl
theorem q2413 : (Jvm.Cond.fieldLink "SchemaWorkshopModel" (100 : Nat) "SchemaWorkshopModel" "cName" "[I") ∈ lw_all := lw_g (lw_at lw_m9 196 rfl) rfl
theorem q2414 : (Jvm.Cond.fieldLink "SchemaWorkshopModel" (103 : Nat) "SchemaWorkshopModel" "cType" "[I") ∈ lw_all := lw_g (lw_at lw_m9 197 rfl) rfl
theorem q2415 : (Jvm.Cond.fieldLink "SchemaWorkshopModel" (106 : Nat) "SchemaWorkshopModel" "cHow" "[I") ∈ lw_all := lw_g (lw_at lw_m9 198 rfl) rfl
theorem q2416 : (Jvm.Cond.fieldLink "SchemaWorkshopModel" (109 : Nat) "SchemaWorkshopModel" "cValue" "[I") ∈ lw_all := lw_g (lw_at lw_m9 199 rfl) rfl
theorem q2417 : (Jvm.Cond.fieldLink "SchemaWorkshopModel" (112 : Nat) "SchemaWorkshopModel" "cNext" "[I") ∈ lw_all := lw_g (lw_at lw_m9 200 rfl) rfl
theorem q2418 : (Jvm.Cond.fieldLink "SchemaWorkshopModel" (565 : Nat) "SchemaWorkshopModel" "limits" "I") ∈ lw_all := lw_g (lw_at lw_m9 201 rfl) rfl
theorem q2419 : (Jvm.Cond.fieldLink "SchemaWorkshopModel" (115 : Nat) "SchemaWorkshopModel" "lBracket" "[I") ∈ lw_all := lw_g (lw_at lw_m9 202 rfl) rfl
theorem q2420 : (Jvm.Cond.fieldLink "SchemaWorkshopModel" (118 : Nat) "SchemaWorkshopModel" "lSize" "[Z") ∈ lw_all := lw_g (lw_at lw_m9 203 rfl) rfl
theorem q2421 : (Jvm.Cond.fieldLink "SchemaWorkshopModel" (121 : Nat) "SchemaWorkshopModel" "lRanges" "[I") ∈ lw_all := lw_g (lw_at lw_m9 204 rfl) rfl
theorem q2422 : (Jvm.Cond.fieldLink "SchemaWorkshopModel" (124 : Nat) "SchemaWorkshopModel" "lRangeCount" "[I") ∈ lw_all := lw_g (lw_at lw_m9 205 rfl) rfl
theorem q2423 : (Jvm.Cond.fieldLink "SchemaWorkshopModel" (127 : Nat) "SchemaWorkshopModel" "lNext" "[I") ∈ lw_all := lw_g (lw_at lw_m9 206 rfl) rfl
theorem q2424 : (Jvm.Cond.fieldLink "SchemaWorkshopModel" (568 : Nat) "SchemaWorkshopModel" "ranges" "I") ∈ lw_all := lw_g (lw_at lw_m9 207 rfl) rfl
theorem q2425 : (Jvm.Cond.fieldLink "SchemaWorkshopModel" (130 : Nat) "SchemaWorkshopModel" "rLow" "[I") ∈ lw_all := lw_g (lw_at lw_m9 208 rfl) rfl
theorem q2426 : (Jvm.Cond.fieldLink "SchemaWorkshopModel" (133 : Nat) "SchemaWorkshopModel" "rLowMinus" "[Z") ∈ lw_all := lw_g (lw_at lw_m9 209 rfl) rfl
theorem q2427 : (Jvm.Cond.fieldLink "SchemaWorkshopModel" (136 : Nat) "SchemaWorkshopModel" "rHigh" "[I") ∈ lw_all := lw_g (lw_at lw_m9 210 rfl) rfl
theorem q2428 : (Jvm.Cond.fieldLink "SchemaWorkshopModel" (139 : Nat) "SchemaWorkshopModel" "rHighMinus" "[Z") ∈ lw_all := lw_g (lw_at lw_m9 211 rfl) rfl
theorem q2429 : (Jvm.Cond.fieldLink "SchemaWorkshopModel" (142 : Nat) "SchemaWorkshopModel" "rFrom" "[I") ∈ lw_all := lw_g (lw_at lw_m9 212 rfl) rfl
theorem q2430 : (Jvm.Cond.fieldLink "SchemaWorkshopModel" (145 : Nat) "SchemaWorkshopModel" "rTo" "[I") ∈ lw_all := lw_g (lw_at lw_m9 213 rfl) rfl
theorem q2431 : (Jvm.Cond.fieldLink "SchemaWorkshopModel" (575 : Nat) "SchemaWorkshopModel" "values" "I") ∈ lw_all := lw_g (lw_at lw_m9 214 rfl) rfl
theorem q2432 : (Jvm.Cond.fieldLink "SchemaWorkshopModel" (148 : Nat) "SchemaWorkshopModel" "vKind" "[I") ∈ lw_all := lw_g (lw_at lw_m9 215 rfl) rfl
theorem q2433 : (Jvm.Cond.fieldLink "SchemaWorkshopModel" (151 : Nat) "SchemaWorkshopModel" "vFirst" "[I") ∈ lw_all := lw_g (lw_at lw_m9 216 rfl) rfl
theorem q2434 : (Jvm.Cond.fieldLink "SchemaWorkshopModel" (154 : Nat) "SchemaWorkshopModel" "vLex" "[I") ∈ lw_all := lw_g (lw_at lw_m9 217 rfl) rfl
theorem q2435 : (Jvm.Cond.fieldLink "SchemaWorkshopModel" (157 : Nat) "SchemaWorkshopModel" "vMinus" "[Z") ∈ lw_all := lw_g (lw_at lw_m9 218 rfl) rfl
theorem q2436 : (Jvm.Cond.fieldLink "SchemaWorkshopModel" (160 : Nat) "SchemaWorkshopModel" "vParts" "[I") ∈ lw_all := lw_g (lw_at lw_m9 219 rfl) rfl
theorem q2437 : (Jvm.Cond.fieldLink "SchemaWorkshopModel" (163 : Nat) "SchemaWorkshopModel" "vPartCount" "[I") ∈ lw_all := lw_g (lw_at lw_m9 220 rfl) rfl
theorem q2438 : (Jvm.Cond.fieldLink "SchemaWorkshopModel" (166 : Nat) "SchemaWorkshopModel" "vType" "[I") ∈ lw_all := lw_g (lw_at lw_m9 221 rfl) rfl
theorem q2439 : (Jvm.Cond.fieldLink "SchemaWorkshopModel" (578 : Nat) "SchemaWorkshopModel" "parts" "I") ∈ lw_all := lw_g (lw_at lw_m9 222 rfl) rfl
theorem q2440 : (Jvm.Cond.fieldLink "SchemaWorkshopModel" (169 : Nat) "SchemaWorkshopModel" "pName" "[I") ∈ lw_all := lw_g (lw_at lw_m9 223 rfl) rfl
theorem q2441 : (Jvm.Cond.fieldLink "SchemaWorkshopModel" (172 : Nat) "SchemaWorkshopModel" "pNumber" "[I") ∈ lw_all := lw_g (lw_at lw_m9 224 rfl) rfl
theorem q2442 : (Jvm.Cond.fieldLink "SchemaWorkshopModel" (486 : Nat) "SchemaWorkshopModel" "assignments" "I") ∈ lw_all := lw_g (lw_at lw_m9 225 rfl) rfl
theorem q2443 : (Jvm.Cond.fieldLink "SchemaWorkshopModel" (175 : Nat) "SchemaWorkshopModel" "aName" "[I") ∈ lw_all := lw_g (lw_at lw_m9 226 rfl) rfl
theorem q2444 : (Jvm.Cond.fieldLink "SchemaWorkshopModel" (178 : Nat) "SchemaWorkshopModel" "aType" "[I") ∈ lw_all := lw_g (lw_at lw_m9 227 rfl) rfl
theorem q2445 : (Jvm.Cond.fieldLink "SchemaWorkshopModel" (181 : Nat) "SchemaWorkshopModel" "aValue" "[I") ∈ lw_all := lw_g (lw_at lw_m9 228 rfl) rfl
theorem q2446 : (Jvm.Cond.fieldLink "SchemaWorkshopModel" (493 : Nat) "SchemaWorkshopModel" "assignedTypes" "I") ∈ lw_all := lw_g (lw_at lw_m9 229 rfl) rfl
theorem q2447 : (Jvm.Cond.fieldLink "SchemaWorkshopModel" (184 : Nat) "SchemaWorkshopModel" "typeAssignment" "[I") ∈ lw_all := lw_g (lw_at lw_m9 230 rfl) rfl
theorem q2448 : (Jvm.Cond.fieldLink "SchemaWorkshopModel" (479 : Nat) "SchemaWorkshopModel" "implicitModule" "Z") ∈ lw_all := lw_g (lw_at lw_m9 231 rfl) rfl
theorem q2449 : (Jvm.Cond.fieldLink "SchemaWorkshopModel" (499 : Nat) "SchemaWorkshopModel" "open" "I") ∈ lw_all := lw_g (lw_at lw_m9 232 rfl) rfl
theorem q2450 : (Jvm.Cond.fieldLink "SchemaWorkshopModel" (187 : Nat) "SchemaWorkshopModel" "openType" "[I") ∈ lw_all := lw_g (lw_at lw_m9 233 rfl) rfl
theorem q2451 : (Jvm.Cond.fieldLink "SchemaWorkshopModel" (190 : Nat) "SchemaWorkshopModel" "openLast" "[I") ∈ lw_all := lw_g (lw_at lw_m9 234 rfl) rfl
theorem q2452 : (Jvm.Cond.fieldLink "SchemaWorkshopModel" (505 : Nat) "SchemaWorkshopModel" "current" "I") ∈ lw_all := lw_g (lw_at lw_m9 235 rfl) rfl
theorem q2453 : (Jvm.Cond.fieldLink "SchemaWorkshopModel" (502 : Nat) "SchemaWorkshopModel" "needs" "Z") ∈ lw_all := lw_g (lw_at lw_m9 236 rfl) rfl
theorem q2454 : (Jvm.Cond.fieldLink "SchemaWorkshopModel" (455 : Nat) "SchemaWorkshopModel" "numbers" "I") ∈ lw_all := lw_g (lw_at lw_m9 237 rfl) rfl
theorem q2455 : (Jvm.Cond.fieldLink "SchemaWorkshopModel" (452 : Nat) "SchemaWorkshopModel" "numberBytes" "I") ∈ lw_all := lw_g (lw_at lw_m9 238 rfl) rfl
theorem q2456 : (Jvm.Cond.fieldLink "SchemaWorkshopModel" (193 : Nat) "SchemaWorkshopModel" "nFrom" "[I") ∈ lw_all := lw_g (lw_at lw_m9 239 rfl) rfl
theorem q2457 : (Jvm.Cond.fieldLink "SchemaWorkshopModel" (196 : Nat) "SchemaWorkshopModel" "nSize" "[I") ∈ lw_all := lw_g (lw_at lw_m10 0 rfl) rfl
theorem q2458 : (Jvm.Cond.fieldLink "SchemaWorkshopModel" (199 : Nat) "SchemaWorkshopModel" "nBytes" "[I") ∈ lw_all := lw_g (lw_at lw_m10 1 rfl) rfl
theorem q2459 : (Jvm.Cond.fieldLink "SchemaWorkshopModel" (202 : Nat) "SchemaWorkshopModel" "positive" "[I") ∈ lw_all := lw_g (lw_at lw_m10 2 rfl) rfl
theorem q2460 : (Jvm.Cond.fieldLink "SchemaWorkshopModel" (205 : Nat) "SchemaWorkshopModel" "negative" "[I") ∈ lw_all := lw_g (lw_at lw_m10 3 rfl) rfl
theorem q2461 : (Jvm.Cond.fieldLink "SchemaWorkshopModel" (208 : Nat) "SchemaWorkshopModel" "digits" "[I") ∈ lw_all := lw_g (lw_at lw_m10 4 rfl) rfl
theorem q2462 : (Jvm.Cond.fieldLink "SchemaWorkshopModel" (211 : Nat) "SchemaWorkshopModel" "heads" "[I") ∈ lw_all := lw_g (lw_at lw_m10 5 rfl) rfl
theorem q2463 : (Jvm.Cond.fieldLink "SchemaWorkshopModel" (214 : Nat) "SchemaWorkshopModel" "nextOf" "[I") ∈ lw_all := lw_g (lw_at lw_m10 6 rfl) rfl
theorem q2464 : (Jvm.Cond.fieldLink "SchemaWorkshopModel" (591 : Nat) "SchemaWorkshopModel" "found" "I") ∈ lw_all := lw_g (lw_at lw_m10 7 rfl) rfl
theorem q2465 : (Jvm.Cond.fieldLink "SchemaWorkshopModel" (217 : Nat) "SchemaWorkshopModel" "finite" "[Z") ∈ lw_all := lw_g (lw_at lw_m10 8 rfl) rfl
theorem q2466 : (Jvm.Cond.fieldLink "SchemaWorkshopModel" (220 : Nat) "SchemaWorkshopModel" "stamp" "[J") ∈ lw_all := lw_g (lw_at lw_m10 9 rfl) rfl
theorem q2467 : (Jvm.Cond.fieldLink "SchemaWorkshopModel" (643 : Nat) "SchemaWorkshopModel" "stamps" "J") ∈ lw_all := lw_g (lw_at lw_m10 10 rfl) rfl
theorem q2468 : (Jvm.Cond.fieldLink "SchemaWorkshopModel" (224 : Nat) "SchemaWorkshopModel" "todo" "[I") ∈ lw_all := lw_g (lw_at lw_m10 11 rfl) rfl
theorem q2469 : (Jvm.Cond.fieldLink "SchemaWorkshopModel" (647 : Nat) "SchemaWorkshopModel" "gathered" "I") ∈ lw_all := lw_g (lw_at lw_m10 12 rfl) rfl
theorem q2470 : (Jvm.Cond.fieldLink "SchemaWorkshopModel" (227 : Nat) "SchemaWorkshopModel" "gather" "[J") ∈ lw_all := lw_g (lw_at lw_m10 13 rfl) rfl
theorem q2471 : (Jvm.Cond.fieldLink "SchemaWorkshopModel" (630 : Nat) "SchemaWorkshopModel" "layers" "I") ∈ lw_all := lw_g (lw_at lw_m10 14 rfl) rfl
theorem q2472 : (Jvm.Cond.fieldLink "SchemaWorkshopModel" (230 : Nat) "SchemaWorkshopModel" "layer" "[J") ∈ lw_all := lw_g (lw_at lw_m10 15 rfl) rfl
theorem q2473 : (Jvm.Cond.fieldLink "SchemaWorkshopModel" (233 : Nat) "SchemaWorkshopModel" "chain" "[I") ∈ lw_all := lw_g (lw_at lw_m10 16 rfl) rfl
theorem q2474 : (Jvm.Cond.fieldLink "SchemaWorkshopModel" (627 : Nat) "SchemaWorkshopModel" "chainSize" "I") ∈ lw_all := lw_g (lw_at lw_m10 17 rfl) rfl
theorem q2475 : (Jvm.Cond.fieldLink "SchemaWorkshopModel" (682 : Nat) "SchemaWorkshopModel" "pieceSize" "I") ∈ lw_all := lw_g (lw_at lw_m10 18 rfl) rfl
theorem q2476 : (Jvm.Cond.fieldLink "SchemaWorkshopModel" (236 : Nat) "SchemaWorkshopModel" "piece" "[I") ∈ lw_all := lw_g (lw_at lw_m10 19 rfl) rfl
theorem q2477 : (Jvm.Cond.fieldLink "SchemaWorkshopModel" (685 : Nat) "SchemaWorkshopModel" "bitCount" "I") ∈ lw_all := lw_g (lw_at lw_m10 20 rfl) rfl
theorem q2478 : (Jvm.Cond.fieldLink "SchemaWorkshopModel" (239 : Nat) "SchemaWorkshopModel" "bits" "[I") ∈ lw_all := lw_g (lw_at lw_m10 21 rfl) rfl
theorem q2479 : (Jvm.Cond.fieldLink "SchemaWorkshopModel" (242 : Nat) "SchemaWorkshopModel" "arcNames" "[I") ∈ lw_all := lw_g (lw_at lw_m10 22 rfl) rfl
theorem q2480 : (Jvm.Cond.fieldLink "SchemaWorkshopModel" (245 : Nat) "SchemaWorkshopModel" "arcs" "[I") ∈ lw_all := lw_g (lw_at lw_m10 23 rfl) rfl
theorem q2481 : (Jvm.Cond.fieldLink "SchemaWorkshopModel" (804 : Nat) "SchemaWorkshopModel" "poolSize" "I") ∈ lw_all := lw_g (lw_at lw_m10 24 rfl) rfl
theorem q2482 : (Jvm.Cond.fieldLink "SchemaWorkshopModel" (248 : Nat) "SchemaWorkshopModel" "pool" "[I") ∈ lw_all := lw_g (lw_at lw_m10 25 rfl) rfl
theorem q2483 : (Jvm.Cond.fieldLink "SchemaWorkshopModel" (251 : Nat) "SchemaWorkshopModel" "xFrom" "[I") ∈ lw_all := lw_g (lw_at lw_m10 26 rfl) rfl
theorem q2484 : (Jvm.Cond.fieldLink "SchemaWorkshopModel" (254 : Nat) "SchemaWorkshopModel" "xSize" "[I") ∈ lw_all := lw_g (lw_at lw_m10 27 rfl) rfl
theorem q2485 : (Jvm.Cond.fieldLink "SchemaWorkshopModel" (257 : Nat) "SchemaWorkshopModel" "xState" "[I") ∈ lw_all := lw_g (lw_at lw_m10 28 rfl) rfl
theorem q2486 : (Jvm.Cond.fieldLink "SchemaWorkshopModel" (260 : Nat) "SchemaWorkshopModel" "leastType" "I") ∈ lw_all := lw_g (lw_at lw_m10 29 rfl) rfl
theorem q2487 : (Jvm.Cond.fieldLink "SchemaWorkshopModel" (263 : Nat) "SchemaWorkshopModel" "least" "[I") ∈ lw_all := lw_g (lw_at lw_m10 30 rfl) rfl
theorem q2488 : (Jvm.Cond.fieldLink "SchemaWorkshopModel" (712 : Nat) "SchemaWorkshopModel" "year" "I") ∈ lw_all := lw_g (lw_at lw_m10 31 rfl) rfl
theorem q2489 : (Jvm.Cond.fieldLink "SchemaWorkshopModel" (706 : Nat) "SchemaWorkshopModel" "month" "I") ∈ lw_all := lw_g (lw_at lw_m10 32 rfl) rfl
theorem q2490 : (Jvm.Cond.fieldLink "SchemaWorkshopModel" (709 : Nat) "SchemaWorkshopModel" "day" "I") ∈ lw_all := lw_g (lw_at lw_m10 33 rfl) rfl
theorem q2491 : (Jvm.Cond.fieldLink "SchemaWorkshopModel" (718 : Nat) "SchemaWorkshopModel" "hour" "I") ∈ lw_all := lw_g (lw_at lw_m10 34 rfl) rfl
theorem q2492 : (Jvm.Cond.fieldLink "SchemaWorkshopModel" (721 : Nat) "SchemaWorkshopModel" "minute" "I") ∈ lw_all := lw_g (lw_at lw_m10 35 rfl) rfl
theorem q2493 : (Jvm.Cond.fieldLink "SchemaWorkshopModel" (724 : Nat) "SchemaWorkshopModel" "second" "I") ∈ lw_all := lw_g (lw_at lw_m10 36 rfl) rfl
theorem q2494 : (Jvm.Cond.fieldLink "SchemaWorkshopModel" (703 : Nat) "SchemaWorkshopModel" "cursor" "I") ∈ lw_all := lw_g (lw_at lw_m10 37 rfl) rfl
theorem q2495 : (Jvm.Cond.fieldLink "SchemaWorkshopModel" (750 : Nat) "SchemaWorkshopModel" "partSize" "I") ∈ lw_all := lw_g (lw_at lw_m10 38 rfl) rfl
theorem q2496 : (Jvm.Cond.fieldLink "SchemaWorkshopModel" (266 : Nat) "SchemaWorkshopModel" "part" "[I") ∈ lw_all := lw_g (lw_at lw_m10 39 rfl) rfl
theorem q2497 : (Jvm.Cond.fieldLink "SchemaWorkshopModel" (370 : Nat) "SchemaWorkshopModel" "dataSize" "I") ∈ lw_all := lw_g (lw_at lw_m10 40 rfl) rfl
theorem q2498 : (Jvm.Cond.fieldLink "SchemaWorkshopModel" (269 : Nat) "SchemaWorkshopModel" "data" "[I") ∈ lw_all := lw_g (lw_at lw_m10 41 rfl) rfl
theorem q2499 : (Jvm.Cond.fieldLink "SchemaWorkshopModel" (868 : Nat) "SchemaWorkshopModel" "elements" "I") ∈ lw_all := lw_g (lw_at lw_m10 42 rfl) rfl
theorem q2500 : (Jvm.Cond.fieldLink "SchemaWorkshopModel" (272 : Nat) "SchemaWorkshopModel" "eFrom" "[I") ∈ lw_all := lw_g (lw_at lw_m10 43 rfl) rfl
theorem q2501 : (Jvm.Cond.fieldLink "SchemaWorkshopModel" (275 : Nat) "SchemaWorkshopModel" "eClass" "[I") ∈ lw_all := lw_g (lw_at lw_m10 44 rfl) rfl
theorem q2502 : (Jvm.Cond.fieldLink "SchemaWorkshopModel" (278 : Nat) "SchemaWorkshopModel" "eHasParts" "[Z") ∈ lw_all := lw_g (lw_at lw_m10 45 rfl) rfl
theorem q2503 : (Jvm.Cond.fieldLink "SchemaWorkshopModel" (281 : Nat) "SchemaWorkshopModel" "eTag" "[I") ∈ lw_all := lw_g (lw_at lw_m10 46 rfl) rfl
theorem q2504 : (Jvm.Cond.fieldLink "SchemaWorkshopModel" (284 : Nat) "SchemaWorkshopModel" "eBody" "[I") ∈ lw_all := lw_g (lw_at lw_m10 47 rfl) rfl
theorem q2505 : (Jvm.Cond.fieldLink "SchemaWorkshopModel" (287 : Nat) "SchemaWorkshopModel" "eEnd" "[I") ∈ lw_all := lw_g (lw_at lw_m10 48 rfl) rfl
theorem q2506 : (Jvm.Cond.fieldLink "SchemaWorkshopModel" (290 : Nat) "SchemaWorkshopModel" "eOpen" "[Z") ∈ lw_all := lw_g (lw_at lw_m10 49 rfl) rfl
theorem q2507 : (Jvm.Cond.fieldLink "SchemaWorkshopModel" (293 : Nat) "SchemaWorkshopModel" "eParent" "[I") ∈ lw_all := lw_g (lw_at lw_m10 50 rfl) rfl
theorem q2508 : (Jvm.Cond.fieldLink "SchemaWorkshopModel" (296 : Nat) "SchemaWorkshopModel" "eChild" "[I") ∈ lw_all := lw_g (lw_at lw_m10 51 rfl) rfl
theorem q2509 : (Jvm.Cond.fieldLink "SchemaWorkshopModel" (299 : Nat) "SchemaWorkshopModel" "eLast" "[I") ∈ lw_all := lw_g (lw_at lw_m10 52 rfl) rfl
theorem q2510 : (Jvm.Cond.fieldLink "SchemaWorkshopModel" (302 : Nat) "SchemaWorkshopModel" "eNext" "[I") ∈ lw_all := lw_g (lw_at lw_m10 53 rfl) rfl
theorem q2511 : (Jvm.Cond.fieldLink "SchemaWorkshopModel" (862 : Nat) "SchemaWorkshopModel" "parent" "I") ∈ lw_all := lw_g (lw_at lw_m10 54 rfl) rfl
theorem q2512 : (Jvm.Cond.fieldLink "SchemaWorkshopModel" (865 : Nat) "SchemaWorkshopModel" "depth" "I") ∈ lw_all := lw_g (lw_at lw_m10 55 rfl) rfl
theorem q2513 : (Jvm.Cond.fieldLink "SchemaWorkshopModel" (871 : Nat) "SchemaWorkshopModel" "pos" "I") ∈ lw_all := lw_g (lw_at lw_m10 56 rfl) rfl
theorem q2514 : (Jvm.Cond.fieldLink "SchemaWorkshopModel" (888 : Nat) "SchemaWorkshopModel" "workSize" "I") ∈ lw_all := lw_g (lw_at lw_m10 57 rfl) rfl
theorem q2515 : (Jvm.Cond.fieldLink "SchemaWorkshopModel" (305 : Nat) "SchemaWorkshopModel" "work" "[I") ∈ lw_all := lw_g (lw_at lw_m10 58 rfl) rfl
theorem q2516 : (Jvm.Cond.fieldLink "SchemaWorkshopModel" (308 : Nat) "SchemaWorkshopModel" "other" "[I") ∈ lw_all := lw_g (lw_at lw_m10 59 rfl) rfl
theorem q2517 : (Jvm.Cond.fieldLink "SchemaWorkshopModel" (895 : Nat) "SchemaWorkshopModel" "headSize" "I") ∈ lw_all := lw_g (lw_at lw_m10 60 rfl) rfl
theorem q2518 : (Jvm.Cond.fieldLink "SchemaWorkshopModel" (311 : Nat) "SchemaWorkshopModel" "head" "[I") ∈ lw_all := lw_g (lw_at lw_m10 61 rfl) rfl
theorem q2519 : (Jvm.Cond.fieldLink "SchemaWorkshopModel" (373 : Nat) "SchemaWorkshopModel" "frames" "I") ∈ lw_all := lw_g (lw_at lw_m10 62 rfl) rfl
theorem q2520 : (Jvm.Cond.fieldLink "SchemaWorkshopModel" (314 : Nat) "SchemaWorkshopModel" "fType" "[I") ∈ lw_all := lw_g (lw_at lw_m10 63 rfl) rfl
theorem q2521 : (Jvm.Cond.fieldLink "SchemaWorkshopModel" (317 : Nat) "SchemaWorkshopModel" "fElement" "[I") ∈ lw_all := lw_g (lw_at lw_m10 64 rfl) rfl
theorem q2522 : (Jvm.Cond.fieldLink "SchemaWorkshopModel" (320 : Nat) "SchemaWorkshopModel" "fWraps" "[I") ∈ lw_all := lw_g (lw_at lw_m10 65 rfl) rfl
theorem q2523 : (Jvm.Cond.fieldLink "SchemaWorkshopModel" (323 : Nat) "SchemaWorkshopModel" "fStart" "[I") ∈ lw_all := lw_g (lw_at lw_m10 66 rfl) rfl
theorem q2524 : (Jvm.Cond.fieldLink "SchemaWorkshopModel" (326 : Nat) "SchemaWorkshopModel" "fMember" "[I") ∈ lw_all := lw_g (lw_at lw_m10 67 rfl) rfl
theorem q2525 : (Jvm.Cond.fieldLink "SchemaWorkshopModel" (329 : Nat) "SchemaWorkshopModel" "fNext" "[I") ∈ lw_all := lw_g (lw_at lw_m10 68 rfl) rfl
theorem q2526 : (Jvm.Cond.fieldLink "SchemaWorkshopModel" (332 : Nat) "SchemaWorkshopModel" "fPlace" "[I") ∈ lw_all := lw_g (lw_at lw_m10 69 rfl) rfl
theorem q2527 : (Jvm.Cond.fieldLink "SchemaWorkshopModel" (335 : Nat) "SchemaWorkshopModel" "fSegments" "[I") ∈ lw_all := lw_g (lw_at lw_m10 70 rfl) rfl
theorem q2528 : (Jvm.Cond.fieldLink "SchemaWorkshopModel" (908 : Nat) "SchemaWorkshopModel" "segments" "I") ∈ lw_all := lw_g (lw_at lw_m10 71 rfl) rfl
theorem q2529 : (Jvm.Cond.fieldLink "SchemaWorkshopModel" (338 : Nat) "SchemaWorkshopModel" "sFrom" "[I") ∈ lw_all := lw_g (lw_at lw_m10 72 rfl) rfl
theorem q2530 : (Jvm.Cond.fieldLink "SchemaWorkshopModel" (341 : Nat) "SchemaWorkshopModel" "sMember" "[I") ∈ lw_all := lw_g (lw_at lw_m10 73 rfl) rfl
theorem q2531 : (Jvm.Cond.fieldLink "SchemaWorkshopModel" (344 : Nat) "SchemaWorkshopModel" "sOrder" "[I") ∈ lw_all := lw_g (lw_at lw_m10 74 rfl) rfl
theorem q2532 : (Jvm.Cond.fieldLink "SchemaWorkshopModel" (347 : Nat) "SchemaWorkshopModel" "sOther" "[I") ∈ lw_all := lw_g (lw_at lw_m10 75 rfl) rfl
theorem q2533 : (Jvm.Cond.laysFinal "SchemaWorkshopModel" "SchemaWorkshopModel" "wordChars" "[I") ∈ lw_all := lw_g (lw_at lw_m10 76 rfl) rfl
theorem q2534 : (Jvm.Cond.soleField "SchemaWorkshopModel" "wordChars") ∈ lw_all := lw_g (lw_at lw_m10 77 rfl) rfl
theorem q2535 : (Jvm.Cond.laysFinal "SchemaWorkshopModel" "SchemaWorkshopModel" "strange" "[I") ∈ lw_all := lw_g (lw_at lw_m10 78 rfl) rfl
theorem q2536 : (Jvm.Cond.soleField "SchemaWorkshopModel" "strange") ∈ lw_all := lw_g (lw_at lw_m10 79 rfl) rfl
theorem q2537 : (Jvm.Cond.laysFinal "SchemaWorkshopModel" "SchemaWorkshopModel" "universal" "[I") ∈ lw_all := lw_g (lw_at lw_m10 80 rfl) rfl
theorem q2538 : (Jvm.Cond.soleField "SchemaWorkshopModel" "universal") ∈ lw_all := lw_g (lw_at lw_m10 81 rfl) rfl
theorem q2539 : (Jvm.Cond.lays "SchemaWorkshopModel" "SchemaWorkshopModel" "thrown" "I") ∈ lw_all := lw_g (lw_at lw_m10 82 rfl) rfl
theorem q2540 : (Jvm.Cond.soleField "SchemaWorkshopModel" "thrown") ∈ lw_all := lw_g (lw_at lw_m10 83 rfl) rfl
theorem q2541 : (Jvm.Cond.lays "SchemaWorkshopModel" "SchemaWorkshopModel" "size" "I") ∈ lw_all := lw_g (lw_at lw_m10 84 rfl) rfl
theorem q2542 : (Jvm.Cond.soleField "SchemaWorkshopModel" "size") ∈ lw_all := lw_g (lw_at lw_m10 85 rfl) rfl
theorem q2543 : (Jvm.Cond.laysFinal "SchemaWorkshopModel" "SchemaWorkshopModel" "tape" "[I") ∈ lw_all := lw_g (lw_at lw_m10 86 rfl) rfl
theorem q2544 : (Jvm.Cond.soleField "SchemaWorkshopModel" "tape") ∈ lw_all := lw_g (lw_at lw_m10 87 rfl) rfl
theorem q2545 : (Jvm.Cond.lays "SchemaWorkshopModel" "SchemaWorkshopModel" "limit" "I") ∈ lw_all := lw_g (lw_at lw_m10 88 rfl) rfl
theorem q2546 : (Jvm.Cond.soleField "SchemaWorkshopModel" "limit") ∈ lw_all := lw_g (lw_at lw_m10 89 rfl) rfl
theorem q2547 : (Jvm.Cond.lays "SchemaWorkshopModel" "SchemaWorkshopModel" "isMade" "Z") ∈ lw_all := lw_g (lw_at lw_m10 90 rfl) rfl
theorem q2548 : (Jvm.Cond.soleField "SchemaWorkshopModel" "isMade") ∈ lw_all := lw_g (lw_at lw_m10 91 rfl) rfl
theorem q2549 : (Jvm.Cond.lays "SchemaWorkshopModel" "SchemaWorkshopModel" "fault" "I") ∈ lw_all := lw_g (lw_at lw_m10 92 rfl) rfl
theorem q2550 : (Jvm.Cond.soleField "SchemaWorkshopModel" "fault") ∈ lw_all := lw_g (lw_at lw_m10 93 rfl) rfl
theorem q2551 : (Jvm.Cond.lays "SchemaWorkshopModel" "SchemaWorkshopModel" "place" "I") ∈ lw_all := lw_g (lw_at lw_m10 94 rfl) rfl
theorem q2552 : (Jvm.Cond.soleField "SchemaWorkshopModel" "place") ∈ lw_all := lw_g (lw_at lw_m10 95 rfl) rfl
theorem q2553 : (Jvm.Cond.lays "SchemaWorkshopModel" "SchemaWorkshopModel" "elementsRead" "I") ∈ lw_all := lw_g (lw_at lw_m10 96 rfl) rfl
theorem q2554 : (Jvm.Cond.soleField "SchemaWorkshopModel" "elementsRead") ∈ lw_all := lw_g (lw_at lw_m10 97 rfl) rfl
theorem q2555 : (Jvm.Cond.lays "SchemaWorkshopModel" "SchemaWorkshopModel" "outSize" "I") ∈ lw_all := lw_g (lw_at lw_m10 98 rfl) rfl
theorem q2556 : (Jvm.Cond.soleField "SchemaWorkshopModel" "outSize") ∈ lw_all := lw_g (lw_at lw_m10 99 rfl) rfl
theorem q2557 : (Jvm.Cond.lays "SchemaWorkshopModel" "SchemaWorkshopModel" "out" "[I") ∈ lw_all := lw_g (lw_at lw_m10 100 rfl) rfl
theorem q2558 : (Jvm.Cond.soleField "SchemaWorkshopModel" "out") ∈ lw_all := lw_g (lw_at lw_m10 101 rfl) rfl
theorem q2559 : (Jvm.Cond.lays "SchemaWorkshopModel" "SchemaWorkshopModel" "textSize" "I") ∈ lw_all := lw_g (lw_at lw_m10 102 rfl) rfl
theorem q2560 : (Jvm.Cond.soleField "SchemaWorkshopModel" "textSize") ∈ lw_all := lw_g (lw_at lw_m10 103 rfl) rfl
theorem q2561 : (Jvm.Cond.laysFinal "SchemaWorkshopModel" "SchemaWorkshopModel" "text" "[I") ∈ lw_all := lw_g (lw_at lw_m10 104 rfl) rfl
theorem q2562 : (Jvm.Cond.soleField "SchemaWorkshopModel" "text") ∈ lw_all := lw_g (lw_at lw_m10 105 rfl) rfl
theorem q2563 : (Jvm.Cond.lays "SchemaWorkshopModel" "SchemaWorkshopModel" "lexemes" "I") ∈ lw_all := lw_g (lw_at lw_m10 106 rfl) rfl
theorem q2564 : (Jvm.Cond.soleField "SchemaWorkshopModel" "lexemes") ∈ lw_all := lw_g (lw_at lw_m10 107 rfl) rfl
theorem q2565 : (Jvm.Cond.lays "SchemaWorkshopModel" "SchemaWorkshopModel" "lexKind" "[I") ∈ lw_all := lw_g (lw_at lw_m10 108 rfl) rfl
theorem q2566 : (Jvm.Cond.soleField "SchemaWorkshopModel" "lexKind") ∈ lw_all := lw_g (lw_at lw_m10 109 rfl) rfl
theorem q2567 : (Jvm.Cond.lays "SchemaWorkshopModel" "SchemaWorkshopModel" "lexFrom" "[I") ∈ lw_all := lw_g (lw_at lw_m10 110 rfl) rfl
theorem q2568 : (Jvm.Cond.soleField "SchemaWorkshopModel" "lexFrom") ∈ lw_all := lw_g (lw_at lw_m10 111 rfl) rfl
theorem q2569 : (Jvm.Cond.lays "SchemaWorkshopModel" "SchemaWorkshopModel" "lexTo" "[I") ∈ lw_all := lw_g (lw_at lw_m10 112 rfl) rfl
theorem q2570 : (Jvm.Cond.soleField "SchemaWorkshopModel" "lexTo") ∈ lw_all := lw_g (lw_at lw_m10 113 rfl) rfl
theorem q2571 : (Jvm.Cond.lays "SchemaWorkshopModel" "SchemaWorkshopModel" "at" "I") ∈ lw_all := lw_g (lw_at lw_m10 114 rfl) rfl
theorem q2572 : (Jvm.Cond.soleField "SchemaWorkshopModel" "at") ∈ lw_all := lw_g (lw_at lw_m10 115 rfl) rfl
theorem q2573 : (Jvm.Cond.lays "SchemaWorkshopModel" "SchemaWorkshopModel" "types" "I") ∈ lw_all := lw_g (lw_at lw_m10 116 rfl) rfl
theorem q2574 : (Jvm.Cond.soleField "SchemaWorkshopModel" "types") ∈ lw_all := lw_g (lw_at lw_m10 117 rfl) rfl
theorem q2575 : (Jvm.Cond.lays "SchemaWorkshopModel" "SchemaWorkshopModel" "tBase" "[I") ∈ lw_all := lw_g (lw_at lw_m10 118 rfl) rfl
theorem q2576 : (Jvm.Cond.soleField "SchemaWorkshopModel" "tBase") ∈ lw_all := lw_g (lw_at lw_m10 119 rfl) rfl
theorem q2577 : (Jvm.Cond.lays "SchemaWorkshopModel" "SchemaWorkshopModel" "tFirst" "[I") ∈ lw_all := lw_g (lw_at lw_m10 120 rfl) rfl
theorem q2578 : (Jvm.Cond.soleField "SchemaWorkshopModel" "tFirst") ∈ lw_all := lw_g (lw_at lw_m10 121 rfl) rfl
theorem q2579 : (Jvm.Cond.lays "SchemaWorkshopModel" "SchemaWorkshopModel" "tTags" "[I") ∈ lw_all := lw_g (lw_at lw_m10 122 rfl) rfl
theorem q2580 : (Jvm.Cond.soleField "SchemaWorkshopModel" "tTags") ∈ lw_all := lw_g (lw_at lw_m10 123 rfl) rfl
theorem q2581 : (Jvm.Cond.lays "SchemaWorkshopModel" "SchemaWorkshopModel" "tTagCount" "[I") ∈ lw_all := lw_g (lw_at lw_m10 124 rfl) rfl
theorem q2582 : (Jvm.Cond.soleField "SchemaWorkshopModel" "tTagCount") ∈ lw_all := lw_g (lw_at lw_m10 125 rfl) rfl
theorem q2583 : (Jvm.Cond.lays "SchemaWorkshopModel" "SchemaWorkshopModel" "tRef" "[I") ∈ lw_all := lw_g (lw_at lw_m10 126 rfl) rfl
theorem q2584 : (Jvm.Cond.soleField "SchemaWorkshopModel" "tRef") ∈ lw_all := lw_g (lw_at lw_m10 127 rfl) rfl
theorem q2585 : (Jvm.Cond.lays "SchemaWorkshopModel" "SchemaWorkshopModel" "tItems" "[I") ∈ lw_all := lw_g (lw_at lw_m10 128 rfl) rfl
theorem q2586 : (Jvm.Cond.soleField "SchemaWorkshopModel" "tItems") ∈ lw_all := lw_g (lw_at lw_m10 129 rfl) rfl
theorem q2587 : (Jvm.Cond.lays "SchemaWorkshopModel" "SchemaWorkshopModel" "tItemCount" "[I") ∈ lw_all := lw_g (lw_at lw_m10 130 rfl) rfl
theorem q2588 : (Jvm.Cond.soleField "SchemaWorkshopModel" "tItemCount") ∈ lw_all := lw_g (lw_at lw_m10 131 rfl) rfl
theorem q2589 : (Jvm.Cond.lays "SchemaWorkshopModel" "SchemaWorkshopModel" "tChild" "[I") ∈ lw_all := lw_g (lw_at lw_m10 132 rfl) rfl
theorem q2590 : (Jvm.Cond.soleField "SchemaWorkshopModel" "tChild") ∈ lw_all := lw_g (lw_at lw_m10 133 rfl) rfl
theorem q2591 : (Jvm.Cond.lays "SchemaWorkshopModel" "SchemaWorkshopModel" "tChildCount" "[I") ∈ lw_all := lw_g (lw_at lw_m10 134 rfl) rfl
theorem q2592 : (Jvm.Cond.soleField "SchemaWorkshopModel" "tChildCount") ∈ lw_all := lw_g (lw_at lw_m10 135 rfl) rfl
theorem q2593 : (Jvm.Cond.lays "SchemaWorkshopModel" "SchemaWorkshopModel" "tElement" "[I") ∈ lw_all := lw_g (lw_at lw_m10 136 rfl) rfl
theorem q2594 : (Jvm.Cond.soleField "SchemaWorkshopModel" "tElement") ∈ lw_all := lw_g (lw_at lw_m10 137 rfl) rfl
theorem q2595 : (Jvm.Cond.lays "SchemaWorkshopModel" "SchemaWorkshopModel" "tLimit" "[I") ∈ lw_all := lw_g (lw_at lw_m10 138 rfl) rfl
theorem q2596 : (Jvm.Cond.soleField "SchemaWorkshopModel" "tLimit") ∈ lw_all := lw_g (lw_at lw_m10 139 rfl) rfl
theorem q2597 : (Jvm.Cond.lays "SchemaWorkshopModel" "SchemaWorkshopModel" "tags" "I") ∈ lw_all := lw_g (lw_at lw_m10 140 rfl) rfl
theorem q2598 : (Jvm.Cond.soleField "SchemaWorkshopModel" "tags") ∈ lw_all := lw_g (lw_at lw_m10 141 rfl) rfl
theorem q2599 : (Jvm.Cond.lays "SchemaWorkshopModel" "SchemaWorkshopModel" "gBracket" "[I") ∈ lw_all := lw_g (lw_at lw_m10 142 rfl) rfl
theorem q2600 : (Jvm.Cond.soleField "SchemaWorkshopModel" "gBracket") ∈ lw_all := lw_g (lw_at lw_m10 143 rfl) rfl
theorem q2601 : (Jvm.Cond.lays "SchemaWorkshopModel" "SchemaWorkshopModel" "gClass" "[I") ∈ lw_all := lw_g (lw_at lw_m10 144 rfl) rfl
theorem q2602 : (Jvm.Cond.soleField "SchemaWorkshopModel" "gClass") ∈ lw_all := lw_g (lw_at lw_m10 145 rfl) rfl
theorem q2603 : (Jvm.Cond.lays "SchemaWorkshopModel" "SchemaWorkshopModel" "gNumber" "[I") ∈ lw_all := lw_g (lw_at lw_m10 146 rfl) rfl
theorem q2604 : (Jvm.Cond.soleField "SchemaWorkshopModel" "gNumber") ∈ lw_all := lw_g (lw_at lw_m10 147 rfl) rfl
theorem q2605 : (Jvm.Cond.lays "SchemaWorkshopModel" "SchemaWorkshopModel" "gHow" "[I") ∈ lw_all := lw_g (lw_at lw_m10 148 rfl) rfl
theorem q2606 : (Jvm.Cond.soleField "SchemaWorkshopModel" "gHow") ∈ lw_all := lw_g (lw_at lw_m10 149 rfl) rfl
theorem q2607 : (Jvm.Cond.lays "SchemaWorkshopModel" "SchemaWorkshopModel" "items" "I") ∈ lw_all := lw_g (lw_at lw_m10 150 rfl) rfl
theorem q2608 : (Jvm.Cond.soleField "SchemaWorkshopModel" "items") ∈ lw_all := lw_g (lw_at lw_m10 151 rfl) rfl
theorem q2609 : (Jvm.Cond.lays "SchemaWorkshopModel" "SchemaWorkshopModel" "iName" "[I") ∈ lw_all := lw_g (lw_at lw_m10 152 rfl) rfl
theorem q2610 : (Jvm.Cond.soleField "SchemaWorkshopModel" "iName") ∈ lw_all := lw_g (lw_at lw_m10 153 rfl) rfl
theorem q2611 : (Jvm.Cond.lays "SchemaWorkshopModel" "SchemaWorkshopModel" "iLex" "[I") ∈ lw_all := lw_g (lw_at lw_m10 154 rfl) rfl
theorem q2612 : (Jvm.Cond.soleField "SchemaWorkshopModel" "iLex") ∈ lw_all := lw_g (lw_at lw_m10 155 rfl) rfl
theorem q2613 : (Jvm.Cond.lays "SchemaWorkshopModel" "SchemaWorkshopModel" "iMinus" "[Z") ∈ lw_all := lw_g (lw_at lw_m10 156 rfl) rfl
theorem q2614 : (Jvm.Cond.soleField "SchemaWorkshopModel" "iMinus") ∈ lw_all := lw_g (lw_at lw_m10 157 rfl) rfl
theorem q2615 : (Jvm.Cond.lays "SchemaWorkshopModel" "SchemaWorkshopModel" "iNumber" "[I") ∈ lw_all := lw_g (lw_at lw_m10 158 rfl) rfl
theorem q2616 : (Jvm.Cond.soleField "SchemaWorkshopModel" "iNumber") ∈ lw_all := lw_g (lw_at lw_m10 159 rfl) rfl
theorem q2617 : (Jvm.Cond.lays "SchemaWorkshopModel" "SchemaWorkshopModel" "components" "I") ∈ lw_all := lw_g (lw_at lw_m10 160 rfl) rfl
theorem q2618 : (Jvm.Cond.soleField "SchemaWorkshopModel" "components") ∈ lw_all := lw_g (lw_at lw_m10 161 rfl) rfl
theorem q2619 : (Jvm.Cond.lays "SchemaWorkshopModel" "SchemaWorkshopModel" "cName" "[I") ∈ lw_all := lw_g (lw_at lw_m10 162 rfl) rfl
theorem q2620 : (Jvm.Cond.soleField "SchemaWorkshopModel" "cName") ∈ lw_all := lw_g (lw_at lw_m10 163 rfl) rfl
theorem q2621 : (Jvm.Cond.lays "SchemaWorkshopModel" "SchemaWorkshopModel" "cType" "[I") ∈ lw_all := lw_g (lw_at lw_m10 164 rfl) rfl
theorem q2622 : (Jvm.Cond.soleField "SchemaWorkshopModel" "cType") ∈ lw_all := lw_g (lw_at lw_m10 165 rfl) rfl
theorem q2623 : (Jvm.Cond.lays "SchemaWorkshopModel" "SchemaWorkshopModel" "cHow" "[I") ∈ lw_all := lw_g (lw_at lw_m10 166 rfl) rfl
theorem q2624 : (Jvm.Cond.soleField "SchemaWorkshopModel" "cHow") ∈ lw_all := lw_g (lw_at lw_m10 167 rfl) rfl
theorem q2625 : (Jvm.Cond.lays "SchemaWorkshopModel" "SchemaWorkshopModel" "cValue" "[I") ∈ lw_all := lw_g (lw_at lw_m10 168 rfl) rfl
theorem q2626 : (Jvm.Cond.soleField "SchemaWorkshopModel" "cValue") ∈ lw_all := lw_g (lw_at lw_m10 169 rfl) rfl
theorem q2627 : (Jvm.Cond.lays "SchemaWorkshopModel" "SchemaWorkshopModel" "cNext" "[I") ∈ lw_all := lw_g (lw_at lw_m10 170 rfl) rfl
theorem q2628 : (Jvm.Cond.soleField "SchemaWorkshopModel" "cNext") ∈ lw_all := lw_g (lw_at lw_m10 171 rfl) rfl
theorem q2629 : (Jvm.Cond.lays "SchemaWorkshopModel" "SchemaWorkshopModel" "limits" "I") ∈ lw_all := lw_g (lw_at lw_m10 172 rfl) rfl
theorem q2630 : (Jvm.Cond.soleField "SchemaWorkshopModel" "limits") ∈ lw_all := lw_g (lw_at lw_m10 173 rfl) rfl
theorem q2631 : (Jvm.Cond.lays "SchemaWorkshopModel" "SchemaWorkshopModel" "lBracket" "[I") ∈ lw_all := lw_g (lw_at lw_m10 174 rfl) rfl
theorem q2632 : (Jvm.Cond.soleField "SchemaWorkshopModel" "lBracket") ∈ lw_all := lw_g (lw_at lw_m10 175 rfl) rfl
theorem q2633 : (Jvm.Cond.lays "SchemaWorkshopModel" "SchemaWorkshopModel" "lSize" "[Z") ∈ lw_all := lw_g (lw_at lw_m10 176 rfl) rfl
theorem q2634 : (Jvm.Cond.soleField "SchemaWorkshopModel" "lSize") ∈ lw_all := lw_g (lw_at lw_m10 177 rfl) rfl
theorem q2635 : (Jvm.Cond.lays "SchemaWorkshopModel" "SchemaWorkshopModel" "lRanges" "[I") ∈ lw_all := lw_g (lw_at lw_m10 178 rfl) rfl
theorem q2636 : (Jvm.Cond.soleField "SchemaWorkshopModel" "lRanges") ∈ lw_all := lw_g (lw_at lw_m10 179 rfl) rfl
theorem q2637 : (Jvm.Cond.lays "SchemaWorkshopModel" "SchemaWorkshopModel" "lRangeCount" "[I") ∈ lw_all := lw_g (lw_at lw_m10 180 rfl) rfl
theorem q2638 : (Jvm.Cond.soleField "SchemaWorkshopModel" "lRangeCount") ∈ lw_all := lw_g (lw_at lw_m10 181 rfl) rfl
theorem q2639 : (Jvm.Cond.lays "SchemaWorkshopModel" "SchemaWorkshopModel" "lNext" "[I") ∈ lw_all := lw_g (lw_at lw_m10 182 rfl) rfl
theorem q2640 : (Jvm.Cond.soleField "SchemaWorkshopModel" "lNext") ∈ lw_all := lw_g (lw_at lw_m10 183 rfl) rfl
theorem q2641 : (Jvm.Cond.lays "SchemaWorkshopModel" "SchemaWorkshopModel" "ranges" "I") ∈ lw_all := lw_g (lw_at lw_m10 184 rfl) rfl
theorem q2642 : (Jvm.Cond.soleField "SchemaWorkshopModel" "ranges") ∈ lw_all := lw_g (lw_at lw_m10 185 rfl) rfl
theorem q2643 : (Jvm.Cond.lays "SchemaWorkshopModel" "SchemaWorkshopModel" "rLow" "[I") ∈ lw_all := lw_g (lw_at lw_m10 186 rfl) rfl
theorem q2644 : (Jvm.Cond.soleField "SchemaWorkshopModel" "rLow") ∈ lw_all := lw_g (lw_at lw_m10 187 rfl) rfl
theorem q2645 : (Jvm.Cond.lays "SchemaWorkshopModel" "SchemaWorkshopModel" "rLowMinus" "[Z") ∈ lw_all := lw_g (lw_at lw_m10 188 rfl) rfl
theorem q2646 : (Jvm.Cond.soleField "SchemaWorkshopModel" "rLowMinus") ∈ lw_all := lw_g (lw_at lw_m10 189 rfl) rfl
theorem q2647 : (Jvm.Cond.lays "SchemaWorkshopModel" "SchemaWorkshopModel" "rHigh" "[I") ∈ lw_all := lw_g (lw_at lw_m10 190 rfl) rfl
theorem q2648 : (Jvm.Cond.soleField "SchemaWorkshopModel" "rHigh") ∈ lw_all := lw_g (lw_at lw_m10 191 rfl) rfl
theorem q2649 : (Jvm.Cond.lays "SchemaWorkshopModel" "SchemaWorkshopModel" "rHighMinus" "[Z") ∈ lw_all := lw_g (lw_at lw_m10 192 rfl) rfl
theorem q2650 : (Jvm.Cond.soleField "SchemaWorkshopModel" "rHighMinus") ∈ lw_all := lw_g (lw_at lw_m10 193 rfl) rfl
theorem q2651 : (Jvm.Cond.lays "SchemaWorkshopModel" "SchemaWorkshopModel" "rFrom" "[I") ∈ lw_all := lw_g (lw_at lw_m10 194 rfl) rfl
theorem q2652 : (Jvm.Cond.soleField "SchemaWorkshopModel" "rFrom") ∈ lw_all := lw_g (lw_at lw_m10 195 rfl) rfl
theorem q2653 : (Jvm.Cond.lays "SchemaWorkshopModel" "SchemaWorkshopModel" "rTo" "[I") ∈ lw_all := lw_g (lw_at lw_m10 196 rfl) rfl
theorem q2654 : (Jvm.Cond.soleField "SchemaWorkshopModel" "rTo") ∈ lw_all := lw_g (lw_at lw_m10 197 rfl) rfl
theorem q2655 : (Jvm.Cond.lays "SchemaWorkshopModel" "SchemaWorkshopModel" "values" "I") ∈ lw_all := lw_g (lw_at lw_m10 198 rfl) rfl
theorem q2656 : (Jvm.Cond.soleField "SchemaWorkshopModel" "values") ∈ lw_all := lw_g (lw_at lw_m10 199 rfl) rfl
theorem q2657 : (Jvm.Cond.lays "SchemaWorkshopModel" "SchemaWorkshopModel" "vKind" "[I") ∈ lw_all := lw_g (lw_at lw_m10 200 rfl) rfl
theorem q2658 : (Jvm.Cond.soleField "SchemaWorkshopModel" "vKind") ∈ lw_all := lw_g (lw_at lw_m10 201 rfl) rfl
theorem q2659 : (Jvm.Cond.lays "SchemaWorkshopModel" "SchemaWorkshopModel" "vFirst" "[I") ∈ lw_all := lw_g (lw_at lw_m10 202 rfl) rfl
theorem q2660 : (Jvm.Cond.soleField "SchemaWorkshopModel" "vFirst") ∈ lw_all := lw_g (lw_at lw_m10 203 rfl) rfl
theorem q2661 : (Jvm.Cond.lays "SchemaWorkshopModel" "SchemaWorkshopModel" "vLex" "[I") ∈ lw_all := lw_g (lw_at lw_m10 204 rfl) rfl
theorem q2662 : (Jvm.Cond.soleField "SchemaWorkshopModel" "vLex") ∈ lw_all := lw_g (lw_at lw_m10 205 rfl) rfl
theorem q2663 : (Jvm.Cond.lays "SchemaWorkshopModel" "SchemaWorkshopModel" "vMinus" "[Z") ∈ lw_all := lw_g (lw_at lw_m10 206 rfl) rfl
theorem q2664 : (Jvm.Cond.soleField "SchemaWorkshopModel" "vMinus") ∈ lw_all := lw_g (lw_at lw_m10 207 rfl) rfl
theorem q2665 : (Jvm.Cond.lays "SchemaWorkshopModel" "SchemaWorkshopModel" "vParts" "[I") ∈ lw_all := lw_g (lw_at lw_m10 208 rfl) rfl
theorem q2666 : (Jvm.Cond.soleField "SchemaWorkshopModel" "vParts") ∈ lw_all := lw_g (lw_at lw_m10 209 rfl) rfl
theorem q2667 : (Jvm.Cond.lays "SchemaWorkshopModel" "SchemaWorkshopModel" "vPartCount" "[I") ∈ lw_all := lw_g (lw_at lw_m10 210 rfl) rfl
theorem q2668 : (Jvm.Cond.soleField "SchemaWorkshopModel" "vPartCount") ∈ lw_all := lw_g (lw_at lw_m10 211 rfl) rfl
theorem q2669 : (Jvm.Cond.lays "SchemaWorkshopModel" "SchemaWorkshopModel" "vType" "[I") ∈ lw_all := lw_g (lw_at lw_m10 212 rfl) rfl
theorem q2670 : (Jvm.Cond.soleField "SchemaWorkshopModel" "vType") ∈ lw_all := lw_g (lw_at lw_m10 213 rfl) rfl
theorem q2671 : (Jvm.Cond.lays "SchemaWorkshopModel" "SchemaWorkshopModel" "parts" "I") ∈ lw_all := lw_g (lw_at lw_m10 214 rfl) rfl
theorem q2672 : (Jvm.Cond.soleField "SchemaWorkshopModel" "parts") ∈ lw_all := lw_g (lw_at lw_m10 215 rfl) rfl
theorem q2673 : (Jvm.Cond.lays "SchemaWorkshopModel" "SchemaWorkshopModel" "pName" "[I") ∈ lw_all := lw_g (lw_at lw_m10 216 rfl) rfl
theorem q2674 : (Jvm.Cond.soleField "SchemaWorkshopModel" "pName") ∈ lw_all := lw_g (lw_at lw_m10 217 rfl) rfl
theorem q2675 : (Jvm.Cond.lays "SchemaWorkshopModel" "SchemaWorkshopModel" "pNumber" "[I") ∈ lw_all := lw_g (lw_at lw_m10 218 rfl) rfl
theorem q2676 : (Jvm.Cond.soleField "SchemaWorkshopModel" "pNumber") ∈ lw_all := lw_g (lw_at lw_m10 219 rfl) rfl
theorem q2677 : (Jvm.Cond.lays "SchemaWorkshopModel" "SchemaWorkshopModel" "assignments" "I") ∈ lw_all := lw_g (lw_at lw_m10 220 rfl) rfl
theorem q2678 : (Jvm.Cond.soleField "SchemaWorkshopModel" "assignments") ∈ lw_all := lw_g (lw_at lw_m10 221 rfl) rfl
theorem q2679 : (Jvm.Cond.lays "SchemaWorkshopModel" "SchemaWorkshopModel" "aName" "[I") ∈ lw_all := lw_g (lw_at lw_m10 222 rfl) rfl
theorem q2680 : (Jvm.Cond.soleField "SchemaWorkshopModel" "aName") ∈ lw_all := lw_g (lw_at lw_m10 223 rfl) rfl
theorem q2681 : (Jvm.Cond.lays "SchemaWorkshopModel" "SchemaWorkshopModel" "aType" "[I") ∈ lw_all := lw_g (lw_at lw_m10 224 rfl) rfl
theorem q2682 : (Jvm.Cond.soleField "SchemaWorkshopModel" "aType") ∈ lw_all := lw_g (lw_at lw_m10 225 rfl) rfl
theorem q2683 : (Jvm.Cond.lays "SchemaWorkshopModel" "SchemaWorkshopModel" "aValue" "[I") ∈ lw_all := lw_g (lw_at lw_m10 226 rfl) rfl
theorem q2684 : (Jvm.Cond.soleField "SchemaWorkshopModel" "aValue") ∈ lw_all := lw_g (lw_at lw_m10 227 rfl) rfl
theorem q2685 : (Jvm.Cond.lays "SchemaWorkshopModel" "SchemaWorkshopModel" "assignedTypes" "I") ∈ lw_all := lw_g (lw_at lw_m10 228 rfl) rfl
theorem q2686 : (Jvm.Cond.soleField "SchemaWorkshopModel" "assignedTypes") ∈ lw_all := lw_g (lw_at lw_m10 229 rfl) rfl
theorem q2687 : (Jvm.Cond.lays "SchemaWorkshopModel" "SchemaWorkshopModel" "typeAssignment" "[I") ∈ lw_all := lw_g (lw_at lw_m10 230 rfl) rfl
theorem q2688 : (Jvm.Cond.soleField "SchemaWorkshopModel" "typeAssignment") ∈ lw_all := lw_g (lw_at lw_m10 231 rfl) rfl
theorem q2689 : (Jvm.Cond.lays "SchemaWorkshopModel" "SchemaWorkshopModel" "implicitModule" "Z") ∈ lw_all := lw_g (lw_at lw_m10 232 rfl) rfl
theorem q2690 : (Jvm.Cond.soleField "SchemaWorkshopModel" "implicitModule") ∈ lw_all := lw_g (lw_at lw_m10 233 rfl) rfl
theorem q2691 : (Jvm.Cond.lays "SchemaWorkshopModel" "SchemaWorkshopModel" "open" "I") ∈ lw_all := lw_g (lw_at lw_m10 234 rfl) rfl
theorem q2692 : (Jvm.Cond.soleField "SchemaWorkshopModel" "open") ∈ lw_all := lw_g (lw_at lw_m10 235 rfl) rfl
theorem q2693 : (Jvm.Cond.laysFinal "SchemaWorkshopModel" "SchemaWorkshopModel" "openType" "[I") ∈ lw_all := lw_g (lw_at lw_m10 236 rfl) rfl
theorem q2694 : (Jvm.Cond.soleField "SchemaWorkshopModel" "openType") ∈ lw_all := lw_g (lw_at lw_m10 237 rfl) rfl
theorem q2695 : (Jvm.Cond.laysFinal "SchemaWorkshopModel" "SchemaWorkshopModel" "openLast" "[I") ∈ lw_all := lw_g (lw_at lw_m10 238 rfl) rfl
theorem q2696 : (Jvm.Cond.soleField "SchemaWorkshopModel" "openLast") ∈ lw_all := lw_g (lw_at lw_m10 239 rfl) rfl
theorem q2697 : (Jvm.Cond.lays "SchemaWorkshopModel" "SchemaWorkshopModel" "current" "I") ∈ lw_all := lw_g (lw_at lw_m11 0 rfl) rfl
theorem q2698 : (Jvm.Cond.soleField "SchemaWorkshopModel" "current") ∈ lw_all := lw_g (lw_at lw_m11 1 rfl) rfl
theorem q2699 : (Jvm.Cond.lays "SchemaWorkshopModel" "SchemaWorkshopModel" "needs" "Z") ∈ lw_all := lw_g (lw_at lw_m11 2 rfl) rfl
theorem q2700 : (Jvm.Cond.soleField "SchemaWorkshopModel" "needs") ∈ lw_all := lw_g (lw_at lw_m11 3 rfl) rfl
theorem q2701 : (Jvm.Cond.lays "SchemaWorkshopModel" "SchemaWorkshopModel" "numbers" "I") ∈ lw_all := lw_g (lw_at lw_m11 4 rfl) rfl
theorem q2702 : (Jvm.Cond.soleField "SchemaWorkshopModel" "numbers") ∈ lw_all := lw_g (lw_at lw_m11 5 rfl) rfl
theorem q2703 : (Jvm.Cond.lays "SchemaWorkshopModel" "SchemaWorkshopModel" "numberBytes" "I") ∈ lw_all := lw_g (lw_at lw_m11 6 rfl) rfl
theorem q2704 : (Jvm.Cond.soleField "SchemaWorkshopModel" "numberBytes") ∈ lw_all := lw_g (lw_at lw_m11 7 rfl) rfl
theorem q2705 : (Jvm.Cond.lays "SchemaWorkshopModel" "SchemaWorkshopModel" "nFrom" "[I") ∈ lw_all := lw_g (lw_at lw_m11 8 rfl) rfl
theorem q2706 : (Jvm.Cond.soleField "SchemaWorkshopModel" "nFrom") ∈ lw_all := lw_g (lw_at lw_m11 9 rfl) rfl
theorem q2707 : (Jvm.Cond.lays "SchemaWorkshopModel" "SchemaWorkshopModel" "nSize" "[I") ∈ lw_all := lw_g (lw_at lw_m11 10 rfl) rfl
theorem q2708 : (Jvm.Cond.soleField "SchemaWorkshopModel" "nSize") ∈ lw_all := lw_g (lw_at lw_m11 11 rfl) rfl
theorem q2709 : (Jvm.Cond.lays "SchemaWorkshopModel" "SchemaWorkshopModel" "nBytes" "[I") ∈ lw_all := lw_g (lw_at lw_m11 12 rfl) rfl
theorem q2710 : (Jvm.Cond.soleField "SchemaWorkshopModel" "nBytes") ∈ lw_all := lw_g (lw_at lw_m11 13 rfl) rfl
theorem q2711 : (Jvm.Cond.lays "SchemaWorkshopModel" "SchemaWorkshopModel" "positive" "[I") ∈ lw_all := lw_g (lw_at lw_m11 14 rfl) rfl
theorem q2712 : (Jvm.Cond.soleField "SchemaWorkshopModel" "positive") ∈ lw_all := lw_g (lw_at lw_m11 15 rfl) rfl
theorem q2713 : (Jvm.Cond.lays "SchemaWorkshopModel" "SchemaWorkshopModel" "negative" "[I") ∈ lw_all := lw_g (lw_at lw_m11 16 rfl) rfl
theorem q2714 : (Jvm.Cond.soleField "SchemaWorkshopModel" "negative") ∈ lw_all := lw_g (lw_at lw_m11 17 rfl) rfl
theorem q2715 : (Jvm.Cond.lays "SchemaWorkshopModel" "SchemaWorkshopModel" "digits" "[I") ∈ lw_all := lw_g (lw_at lw_m11 18 rfl) rfl
theorem q2716 : (Jvm.Cond.soleField "SchemaWorkshopModel" "digits") ∈ lw_all := lw_g (lw_at lw_m11 19 rfl) rfl
theorem q2717 : (Jvm.Cond.laysFinal "SchemaWorkshopModel" "SchemaWorkshopModel" "heads" "[I") ∈ lw_all := lw_g (lw_at lw_m11 20 rfl) rfl
theorem q2718 : (Jvm.Cond.soleField "SchemaWorkshopModel" "heads") ∈ lw_all := lw_g (lw_at lw_m11 21 rfl) rfl
theorem q2719 : (Jvm.Cond.lays "SchemaWorkshopModel" "SchemaWorkshopModel" "nextOf" "[I") ∈ lw_all := lw_g (lw_at lw_m11 22 rfl) rfl
theorem q2720 : (Jvm.Cond.soleField "SchemaWorkshopModel" "nextOf") ∈ lw_all := lw_g (lw_at lw_m11 23 rfl) rfl
theorem q2721 : (Jvm.Cond.lays "SchemaWorkshopModel" "SchemaWorkshopModel" "found" "I") ∈ lw_all := lw_g (lw_at lw_m11 24 rfl) rfl
theorem q2722 : (Jvm.Cond.soleField "SchemaWorkshopModel" "found") ∈ lw_all := lw_g (lw_at lw_m11 25 rfl) rfl
theorem q2723 : (Jvm.Cond.lays "SchemaWorkshopModel" "SchemaWorkshopModel" "finite" "[Z") ∈ lw_all := lw_g (lw_at lw_m11 26 rfl) rfl
theorem q2724 : (Jvm.Cond.soleField "SchemaWorkshopModel" "finite") ∈ lw_all := lw_g (lw_at lw_m11 27 rfl) rfl
theorem q2725 : (Jvm.Cond.lays "SchemaWorkshopModel" "SchemaWorkshopModel" "stamp" "[J") ∈ lw_all := lw_g (lw_at lw_m11 28 rfl) rfl
theorem q2726 : (Jvm.Cond.soleField "SchemaWorkshopModel" "stamp") ∈ lw_all := lw_g (lw_at lw_m11 29 rfl) rfl
theorem q2727 : (Jvm.Cond.lays "SchemaWorkshopModel" "SchemaWorkshopModel" "stamps" "J") ∈ lw_all := lw_g (lw_at lw_m11 30 rfl) rfl
theorem q2728 : (Jvm.Cond.soleField "SchemaWorkshopModel" "stamps") ∈ lw_all := lw_g (lw_at lw_m11 31 rfl) rfl
theorem q2729 : (Jvm.Cond.lays "SchemaWorkshopModel" "SchemaWorkshopModel" "todo" "[I") ∈ lw_all := lw_g (lw_at lw_m11 32 rfl) rfl
theorem q2730 : (Jvm.Cond.soleField "SchemaWorkshopModel" "todo") ∈ lw_all := lw_g (lw_at lw_m11 33 rfl) rfl
theorem q2731 : (Jvm.Cond.lays "SchemaWorkshopModel" "SchemaWorkshopModel" "gathered" "I") ∈ lw_all := lw_g (lw_at lw_m11 34 rfl) rfl
theorem q2732 : (Jvm.Cond.soleField "SchemaWorkshopModel" "gathered") ∈ lw_all := lw_g (lw_at lw_m11 35 rfl) rfl
theorem q2733 : (Jvm.Cond.lays "SchemaWorkshopModel" "SchemaWorkshopModel" "gather" "[J") ∈ lw_all := lw_g (lw_at lw_m11 36 rfl) rfl
theorem q2734 : (Jvm.Cond.soleField "SchemaWorkshopModel" "gather") ∈ lw_all := lw_g (lw_at lw_m11 37 rfl) rfl
theorem q2735 : (Jvm.Cond.lays "SchemaWorkshopModel" "SchemaWorkshopModel" "layers" "I") ∈ lw_all := lw_g (lw_at lw_m11 38 rfl) rfl
theorem q2736 : (Jvm.Cond.soleField "SchemaWorkshopModel" "layers") ∈ lw_all := lw_g (lw_at lw_m11 39 rfl) rfl
theorem q2737 : (Jvm.Cond.lays "SchemaWorkshopModel" "SchemaWorkshopModel" "layer" "[J") ∈ lw_all := lw_g (lw_at lw_m11 40 rfl) rfl
theorem q2738 : (Jvm.Cond.soleField "SchemaWorkshopModel" "layer") ∈ lw_all := lw_g (lw_at lw_m11 41 rfl) rfl
theorem q2739 : (Jvm.Cond.lays "SchemaWorkshopModel" "SchemaWorkshopModel" "chain" "[I") ∈ lw_all := lw_g (lw_at lw_m11 42 rfl) rfl
theorem q2740 : (Jvm.Cond.soleField "SchemaWorkshopModel" "chain") ∈ lw_all := lw_g (lw_at lw_m11 43 rfl) rfl
theorem q2741 : (Jvm.Cond.lays "SchemaWorkshopModel" "SchemaWorkshopModel" "chainSize" "I") ∈ lw_all := lw_g (lw_at lw_m11 44 rfl) rfl
theorem q2742 : (Jvm.Cond.soleField "SchemaWorkshopModel" "chainSize") ∈ lw_all := lw_g (lw_at lw_m11 45 rfl) rfl
theorem q2743 : (Jvm.Cond.lays "SchemaWorkshopModel" "SchemaWorkshopModel" "pieceSize" "I") ∈ lw_all := lw_g (lw_at lw_m11 46 rfl) rfl
theorem q2744 : (Jvm.Cond.soleField "SchemaWorkshopModel" "pieceSize") ∈ lw_all := lw_g (lw_at lw_m11 47 rfl) rfl
theorem q2745 : (Jvm.Cond.lays "SchemaWorkshopModel" "SchemaWorkshopModel" "piece" "[I") ∈ lw_all := lw_g (lw_at lw_m11 48 rfl) rfl
theorem q2746 : (Jvm.Cond.soleField "SchemaWorkshopModel" "piece") ∈ lw_all := lw_g (lw_at lw_m11 49 rfl) rfl
theorem q2747 : (Jvm.Cond.lays "SchemaWorkshopModel" "SchemaWorkshopModel" "bitCount" "I") ∈ lw_all := lw_g (lw_at lw_m11 50 rfl) rfl
theorem q2748 : (Jvm.Cond.soleField "SchemaWorkshopModel" "bitCount") ∈ lw_all := lw_g (lw_at lw_m11 51 rfl) rfl
theorem q2749 : (Jvm.Cond.lays "SchemaWorkshopModel" "SchemaWorkshopModel" "bits" "[I") ∈ lw_all := lw_g (lw_at lw_m11 52 rfl) rfl
theorem q2750 : (Jvm.Cond.soleField "SchemaWorkshopModel" "bits") ∈ lw_all := lw_g (lw_at lw_m11 53 rfl) rfl
theorem q2751 : (Jvm.Cond.laysFinal "SchemaWorkshopModel" "SchemaWorkshopModel" "arcNames" "[I") ∈ lw_all := lw_g (lw_at lw_m11 54 rfl) rfl
theorem q2752 : (Jvm.Cond.soleField "SchemaWorkshopModel" "arcNames") ∈ lw_all := lw_g (lw_at lw_m11 55 rfl) rfl
theorem q2753 : (Jvm.Cond.laysFinal "SchemaWorkshopModel" "SchemaWorkshopModel" "arcs" "[I") ∈ lw_all := lw_g (lw_at lw_m11 56 rfl) rfl
theorem q2754 : (Jvm.Cond.soleField "SchemaWorkshopModel" "arcs") ∈ lw_all := lw_g (lw_at lw_m11 57 rfl) rfl
theorem q2755 : (Jvm.Cond.lays "SchemaWorkshopModel" "SchemaWorkshopModel" "poolSize" "I") ∈ lw_all := lw_g (lw_at lw_m11 58 rfl) rfl
theorem q2756 : (Jvm.Cond.soleField "SchemaWorkshopModel" "poolSize") ∈ lw_all := lw_g (lw_at lw_m11 59 rfl) rfl
theorem q2757 : (Jvm.Cond.lays "SchemaWorkshopModel" "SchemaWorkshopModel" "pool" "[I") ∈ lw_all := lw_g (lw_at lw_m11 60 rfl) rfl
theorem q2758 : (Jvm.Cond.soleField "SchemaWorkshopModel" "pool") ∈ lw_all := lw_g (lw_at lw_m11 61 rfl) rfl
theorem q2759 : (Jvm.Cond.lays "SchemaWorkshopModel" "SchemaWorkshopModel" "xFrom" "[I") ∈ lw_all := lw_g (lw_at lw_m11 62 rfl) rfl
theorem q2760 : (Jvm.Cond.soleField "SchemaWorkshopModel" "xFrom") ∈ lw_all := lw_g (lw_at lw_m11 63 rfl) rfl
theorem q2761 : (Jvm.Cond.lays "SchemaWorkshopModel" "SchemaWorkshopModel" "xSize" "[I") ∈ lw_all := lw_g (lw_at lw_m11 64 rfl) rfl
theorem q2762 : (Jvm.Cond.soleField "SchemaWorkshopModel" "xSize") ∈ lw_all := lw_g (lw_at lw_m11 65 rfl) rfl
theorem q2763 : (Jvm.Cond.lays "SchemaWorkshopModel" "SchemaWorkshopModel" "xState" "[I") ∈ lw_all := lw_g (lw_at lw_m11 66 rfl) rfl
theorem q2764 : (Jvm.Cond.soleField "SchemaWorkshopModel" "xState") ∈ lw_all := lw_g (lw_at lw_m11 67 rfl) rfl
theorem q2765 : (Jvm.Cond.lays "SchemaWorkshopModel" "SchemaWorkshopModel" "leastType" "I") ∈ lw_all := lw_g (lw_at lw_m11 68 rfl) rfl
theorem q2766 : (Jvm.Cond.soleField "SchemaWorkshopModel" "leastType") ∈ lw_all := lw_g (lw_at lw_m11 69 rfl) rfl
theorem q2767 : (Jvm.Cond.laysFinal "SchemaWorkshopModel" "SchemaWorkshopModel" "least" "[I") ∈ lw_all := lw_g (lw_at lw_m11 70 rfl) rfl
theorem q2768 : (Jvm.Cond.soleField "SchemaWorkshopModel" "least") ∈ lw_all := lw_g (lw_at lw_m11 71 rfl) rfl
theorem q2769 : (Jvm.Cond.lays "SchemaWorkshopModel" "SchemaWorkshopModel" "year" "I") ∈ lw_all := lw_g (lw_at lw_m11 72 rfl) rfl
theorem q2770 : (Jvm.Cond.soleField "SchemaWorkshopModel" "year") ∈ lw_all := lw_g (lw_at lw_m11 73 rfl) rfl
theorem q2771 : (Jvm.Cond.lays "SchemaWorkshopModel" "SchemaWorkshopModel" "month" "I") ∈ lw_all := lw_g (lw_at lw_m11 74 rfl) rfl
theorem q2772 : (Jvm.Cond.soleField "SchemaWorkshopModel" "month") ∈ lw_all := lw_g (lw_at lw_m11 75 rfl) rfl
theorem q2773 : (Jvm.Cond.lays "SchemaWorkshopModel" "SchemaWorkshopModel" "day" "I") ∈ lw_all := lw_g (lw_at lw_m11 76 rfl) rfl
theorem q2774 : (Jvm.Cond.soleField "SchemaWorkshopModel" "day") ∈ lw_all := lw_g (lw_at lw_m11 77 rfl) rfl
theorem q2775 : (Jvm.Cond.lays "SchemaWorkshopModel" "SchemaWorkshopModel" "hour" "I") ∈ lw_all := lw_g (lw_at lw_m11 78 rfl) rfl
theorem q2776 : (Jvm.Cond.soleField "SchemaWorkshopModel" "hour") ∈ lw_all := lw_g (lw_at lw_m11 79 rfl) rfl
theorem q2777 : (Jvm.Cond.lays "SchemaWorkshopModel" "SchemaWorkshopModel" "minute" "I") ∈ lw_all := lw_g (lw_at lw_m11 80 rfl) rfl
theorem q2778 : (Jvm.Cond.soleField "SchemaWorkshopModel" "minute") ∈ lw_all := lw_g (lw_at lw_m11 81 rfl) rfl
theorem q2779 : (Jvm.Cond.lays "SchemaWorkshopModel" "SchemaWorkshopModel" "second" "I") ∈ lw_all := lw_g (lw_at lw_m11 82 rfl) rfl
theorem q2780 : (Jvm.Cond.soleField "SchemaWorkshopModel" "second") ∈ lw_all := lw_g (lw_at lw_m11 83 rfl) rfl
theorem q2781 : (Jvm.Cond.lays "SchemaWorkshopModel" "SchemaWorkshopModel" "cursor" "I") ∈ lw_all := lw_g (lw_at lw_m11 84 rfl) rfl
theorem q2782 : (Jvm.Cond.soleField "SchemaWorkshopModel" "cursor") ∈ lw_all := lw_g (lw_at lw_m11 85 rfl) rfl
theorem q2783 : (Jvm.Cond.lays "SchemaWorkshopModel" "SchemaWorkshopModel" "partSize" "I") ∈ lw_all := lw_g (lw_at lw_m11 86 rfl) rfl
theorem q2784 : (Jvm.Cond.soleField "SchemaWorkshopModel" "partSize") ∈ lw_all := lw_g (lw_at lw_m11 87 rfl) rfl
theorem q2785 : (Jvm.Cond.lays "SchemaWorkshopModel" "SchemaWorkshopModel" "part" "[I") ∈ lw_all := lw_g (lw_at lw_m11 88 rfl) rfl
theorem q2786 : (Jvm.Cond.soleField "SchemaWorkshopModel" "part") ∈ lw_all := lw_g (lw_at lw_m11 89 rfl) rfl
theorem q2787 : (Jvm.Cond.lays "SchemaWorkshopModel" "SchemaWorkshopModel" "dataSize" "I") ∈ lw_all := lw_g (lw_at lw_m11 90 rfl) rfl
theorem q2788 : (Jvm.Cond.soleField "SchemaWorkshopModel" "dataSize") ∈ lw_all := lw_g (lw_at lw_m11 91 rfl) rfl
theorem q2789 : (Jvm.Cond.laysFinal "SchemaWorkshopModel" "SchemaWorkshopModel" "data" "[I") ∈ lw_all := lw_g (lw_at lw_m11 92 rfl) rfl
theorem q2790 : (Jvm.Cond.soleField "SchemaWorkshopModel" "data") ∈ lw_all := lw_g (lw_at lw_m11 93 rfl) rfl
theorem q2791 : (Jvm.Cond.lays "SchemaWorkshopModel" "SchemaWorkshopModel" "elements" "I") ∈ lw_all := lw_g (lw_at lw_m11 94 rfl) rfl
theorem q2792 : (Jvm.Cond.soleField "SchemaWorkshopModel" "elements") ∈ lw_all := lw_g (lw_at lw_m11 95 rfl) rfl
theorem q2793 : (Jvm.Cond.lays "SchemaWorkshopModel" "SchemaWorkshopModel" "eFrom" "[I") ∈ lw_all := lw_g (lw_at lw_m11 96 rfl) rfl
theorem q2794 : (Jvm.Cond.soleField "SchemaWorkshopModel" "eFrom") ∈ lw_all := lw_g (lw_at lw_m11 97 rfl) rfl
theorem q2795 : (Jvm.Cond.lays "SchemaWorkshopModel" "SchemaWorkshopModel" "eClass" "[I") ∈ lw_all := lw_g (lw_at lw_m11 98 rfl) rfl
theorem q2796 : (Jvm.Cond.soleField "SchemaWorkshopModel" "eClass") ∈ lw_all := lw_g (lw_at lw_m11 99 rfl) rfl
theorem q2797 : (Jvm.Cond.lays "SchemaWorkshopModel" "SchemaWorkshopModel" "eHasParts" "[Z") ∈ lw_all := lw_g (lw_at lw_m11 100 rfl) rfl
theorem q2798 : (Jvm.Cond.soleField "SchemaWorkshopModel" "eHasParts") ∈ lw_all := lw_g (lw_at lw_m11 101 rfl) rfl
theorem q2799 : (Jvm.Cond.lays "SchemaWorkshopModel" "SchemaWorkshopModel" "eTag" "[I") ∈ lw_all := lw_g (lw_at lw_m11 102 rfl) rfl
theorem q2800 : (Jvm.Cond.soleField "SchemaWorkshopModel" "eTag") ∈ lw_all := lw_g (lw_at lw_m11 103 rfl) rfl
theorem q2801 : (Jvm.Cond.lays "SchemaWorkshopModel" "SchemaWorkshopModel" "eBody" "[I") ∈ lw_all := lw_g (lw_at lw_m11 104 rfl) rfl
theorem q2802 : (Jvm.Cond.soleField "SchemaWorkshopModel" "eBody") ∈ lw_all := lw_g (lw_at lw_m11 105 rfl) rfl
theorem q2803 : (Jvm.Cond.lays "SchemaWorkshopModel" "SchemaWorkshopModel" "eEnd" "[I") ∈ lw_all := lw_g (lw_at lw_m11 106 rfl) rfl
theorem q2804 : (Jvm.Cond.soleField "SchemaWorkshopModel" "eEnd") ∈ lw_all := lw_g (lw_at lw_m11 107 rfl) rfl
theorem q2805 : (Jvm.Cond.lays "SchemaWorkshopModel" "SchemaWorkshopModel" "eOpen" "[Z") ∈ lw_all := lw_g (lw_at lw_m11 108 rfl) rfl
theorem q2806 : (Jvm.Cond.soleField "SchemaWorkshopModel" "eOpen") ∈ lw_all := lw_g (lw_at lw_m11 109 rfl) rfl
theorem q2807 : (Jvm.Cond.lays "SchemaWorkshopModel" "SchemaWorkshopModel" "eParent" "[I") ∈ lw_all := lw_g (lw_at lw_m11 110 rfl) rfl
theorem q2808 : (Jvm.Cond.soleField "SchemaWorkshopModel" "eParent") ∈ lw_all := lw_g (lw_at lw_m11 111 rfl) rfl
theorem q2809 : (Jvm.Cond.lays "SchemaWorkshopModel" "SchemaWorkshopModel" "eChild" "[I") ∈ lw_all := lw_g (lw_at lw_m11 112 rfl) rfl
theorem q2810 : (Jvm.Cond.soleField "SchemaWorkshopModel" "eChild") ∈ lw_all := lw_g (lw_at lw_m11 113 rfl) rfl
theorem q2811 : (Jvm.Cond.lays "SchemaWorkshopModel" "SchemaWorkshopModel" "eLast" "[I") ∈ lw_all := lw_g (lw_at lw_m11 114 rfl) rfl
theorem q2812 : (Jvm.Cond.soleField "SchemaWorkshopModel" "eLast") ∈ lw_all := lw_g (lw_at lw_m11 115 rfl) rfl
theorem q2813 : (Jvm.Cond.lays "SchemaWorkshopModel" "SchemaWorkshopModel" "eNext" "[I") ∈ lw_all := lw_g (lw_at lw_m11 116 rfl) rfl
theorem q2814 : (Jvm.Cond.soleField "SchemaWorkshopModel" "eNext") ∈ lw_all := lw_g (lw_at lw_m11 117 rfl) rfl
theorem q2815 : (Jvm.Cond.lays "SchemaWorkshopModel" "SchemaWorkshopModel" "parent" "I") ∈ lw_all := lw_g (lw_at lw_m11 118 rfl) rfl
theorem q2816 : (Jvm.Cond.soleField "SchemaWorkshopModel" "parent") ∈ lw_all := lw_g (lw_at lw_m11 119 rfl) rfl
theorem q2817 : (Jvm.Cond.lays "SchemaWorkshopModel" "SchemaWorkshopModel" "depth" "I") ∈ lw_all := lw_g (lw_at lw_m11 120 rfl) rfl
theorem q2818 : (Jvm.Cond.soleField "SchemaWorkshopModel" "depth") ∈ lw_all := lw_g (lw_at lw_m11 121 rfl) rfl
theorem q2819 : (Jvm.Cond.lays "SchemaWorkshopModel" "SchemaWorkshopModel" "pos" "I") ∈ lw_all := lw_g (lw_at lw_m11 122 rfl) rfl
theorem q2820 : (Jvm.Cond.soleField "SchemaWorkshopModel" "pos") ∈ lw_all := lw_g (lw_at lw_m11 123 rfl) rfl
theorem q2821 : (Jvm.Cond.lays "SchemaWorkshopModel" "SchemaWorkshopModel" "workSize" "I") ∈ lw_all := lw_g (lw_at lw_m11 124 rfl) rfl
theorem q2822 : (Jvm.Cond.soleField "SchemaWorkshopModel" "workSize") ∈ lw_all := lw_g (lw_at lw_m11 125 rfl) rfl
theorem q2823 : (Jvm.Cond.lays "SchemaWorkshopModel" "SchemaWorkshopModel" "work" "[I") ∈ lw_all := lw_g (lw_at lw_m11 126 rfl) rfl
theorem q2824 : (Jvm.Cond.soleField "SchemaWorkshopModel" "work") ∈ lw_all := lw_g (lw_at lw_m11 127 rfl) rfl
theorem q2825 : (Jvm.Cond.lays "SchemaWorkshopModel" "SchemaWorkshopModel" "other" "[I") ∈ lw_all := lw_g (lw_at lw_m11 128 rfl) rfl
theorem q2826 : (Jvm.Cond.soleField "SchemaWorkshopModel" "other") ∈ lw_all := lw_g (lw_at lw_m11 129 rfl) rfl
theorem q2827 : (Jvm.Cond.lays "SchemaWorkshopModel" "SchemaWorkshopModel" "headSize" "I") ∈ lw_all := lw_g (lw_at lw_m11 130 rfl) rfl
theorem q2828 : (Jvm.Cond.soleField "SchemaWorkshopModel" "headSize") ∈ lw_all := lw_g (lw_at lw_m11 131 rfl) rfl
theorem q2829 : (Jvm.Cond.laysFinal "SchemaWorkshopModel" "SchemaWorkshopModel" "head" "[I") ∈ lw_all := lw_g (lw_at lw_m11 132 rfl) rfl
theorem q2830 : (Jvm.Cond.soleField "SchemaWorkshopModel" "head") ∈ lw_all := lw_g (lw_at lw_m11 133 rfl) rfl
theorem q2831 : (Jvm.Cond.lays "SchemaWorkshopModel" "SchemaWorkshopModel" "frames" "I") ∈ lw_all := lw_g (lw_at lw_m11 134 rfl) rfl
theorem q2832 : (Jvm.Cond.soleField "SchemaWorkshopModel" "frames") ∈ lw_all := lw_g (lw_at lw_m11 135 rfl) rfl
theorem q2833 : (Jvm.Cond.lays "SchemaWorkshopModel" "SchemaWorkshopModel" "fType" "[I") ∈ lw_all := lw_g (lw_at lw_m11 136 rfl) rfl
theorem q2834 : (Jvm.Cond.soleField "SchemaWorkshopModel" "fType") ∈ lw_all := lw_g (lw_at lw_m11 137 rfl) rfl
theorem q2835 : (Jvm.Cond.lays "SchemaWorkshopModel" "SchemaWorkshopModel" "fElement" "[I") ∈ lw_all := lw_g (lw_at lw_m11 138 rfl) rfl
theorem q2836 : (Jvm.Cond.soleField "SchemaWorkshopModel" "fElement") ∈ lw_all := lw_g (lw_at lw_m11 139 rfl) rfl
theorem q2837 : (Jvm.Cond.lays "SchemaWorkshopModel" "SchemaWorkshopModel" "fWraps" "[I") ∈ lw_all := lw_g (lw_at lw_m11 140 rfl) rfl
theorem q2838 : (Jvm.Cond.soleField "SchemaWorkshopModel" "fWraps") ∈ lw_all := lw_g (lw_at lw_m11 141 rfl) rfl
theorem q2839 : (Jvm.Cond.lays "SchemaWorkshopModel" "SchemaWorkshopModel" "fStart" "[I") ∈ lw_all := lw_g (lw_at lw_m11 142 rfl) rfl
theorem q2840 : (Jvm.Cond.soleField "SchemaWorkshopModel" "fStart") ∈ lw_all := lw_g (lw_at lw_m11 143 rfl) rfl
theorem q2841 : (Jvm.Cond.lays "SchemaWorkshopModel" "SchemaWorkshopModel" "fMember" "[I") ∈ lw_all := lw_g (lw_at lw_m11 144 rfl) rfl
theorem q2842 : (Jvm.Cond.soleField "SchemaWorkshopModel" "fMember") ∈ lw_all := lw_g (lw_at lw_m11 145 rfl) rfl
theorem q2843 : (Jvm.Cond.lays "SchemaWorkshopModel" "SchemaWorkshopModel" "fNext" "[I") ∈ lw_all := lw_g (lw_at lw_m11 146 rfl) rfl
theorem q2844 : (Jvm.Cond.soleField "SchemaWorkshopModel" "fNext") ∈ lw_all := lw_g (lw_at lw_m11 147 rfl) rfl
theorem q2845 : (Jvm.Cond.lays "SchemaWorkshopModel" "SchemaWorkshopModel" "fPlace" "[I") ∈ lw_all := lw_g (lw_at lw_m11 148 rfl) rfl
theorem q2846 : (Jvm.Cond.soleField "SchemaWorkshopModel" "fPlace") ∈ lw_all := lw_g (lw_at lw_m11 149 rfl) rfl
theorem q2847 : (Jvm.Cond.lays "SchemaWorkshopModel" "SchemaWorkshopModel" "fSegments" "[I") ∈ lw_all := lw_g (lw_at lw_m11 150 rfl) rfl
theorem q2848 : (Jvm.Cond.soleField "SchemaWorkshopModel" "fSegments") ∈ lw_all := lw_g (lw_at lw_m11 151 rfl) rfl
theorem q2849 : (Jvm.Cond.lays "SchemaWorkshopModel" "SchemaWorkshopModel" "segments" "I") ∈ lw_all := lw_g (lw_at lw_m11 152 rfl) rfl
theorem q2850 : (Jvm.Cond.soleField "SchemaWorkshopModel" "segments") ∈ lw_all := lw_g (lw_at lw_m11 153 rfl) rfl
theorem q2851 : (Jvm.Cond.lays "SchemaWorkshopModel" "SchemaWorkshopModel" "sFrom" "[I") ∈ lw_all := lw_g (lw_at lw_m11 154 rfl) rfl
theorem q2852 : (Jvm.Cond.soleField "SchemaWorkshopModel" "sFrom") ∈ lw_all := lw_g (lw_at lw_m11 155 rfl) rfl
theorem q2853 : (Jvm.Cond.lays "SchemaWorkshopModel" "SchemaWorkshopModel" "sMember" "[I") ∈ lw_all := lw_g (lw_at lw_m11 156 rfl) rfl
theorem q2854 : (Jvm.Cond.soleField "SchemaWorkshopModel" "sMember") ∈ lw_all := lw_g (lw_at lw_m11 157 rfl) rfl
theorem q2855 : (Jvm.Cond.lays "SchemaWorkshopModel" "SchemaWorkshopModel" "sOrder" "[I") ∈ lw_all := lw_g (lw_at lw_m11 158 rfl) rfl
theorem q2856 : (Jvm.Cond.soleField "SchemaWorkshopModel" "sOrder") ∈ lw_all := lw_g (lw_at lw_m11 159 rfl) rfl
theorem q2857 : (Jvm.Cond.lays "SchemaWorkshopModel" "SchemaWorkshopModel" "sOther" "[I") ∈ lw_all := lw_g (lw_at lw_m11 160 rfl) rfl
theorem q2858 : (Jvm.Cond.soleField "SchemaWorkshopModel" "sOther") ∈ lw_all := lw_g (lw_at lw_m11 161 rfl) rfl
theorem q2859 : (Jvm.Cond.superclass "SchemaWorkshopModel" "java/lang/Object") ∈ lw_all := lw_g (lw_at lw_m11 162 rfl) rfl
theorem q2862 : (Jvm.Cond.instanceMethod ({ cls := "SchemaWorkshopModel", name := "thrown", desc := "()I" } : Jvm.MethodName)) ∈ lw_all := lw_g (lw_at lw_m11 165 rfl) rfl
theorem q2863 : (Jvm.Cond.selects "SchemaWorkshopModel" ({ cls := "SchemaWorkshopModel", name := "thrown", desc := "()I" } : Jvm.MethodName) ({ cls := "SchemaWorkshopModel", name := "thrown", desc := "()I" } : Jvm.MethodName)) ∈ lw_all := lw_g (lw_at lw_m11 166 rfl) rfl
theorem q2864 : (Jvm.Cond.code ({ cls := "SchemaWorkshopModel", name := "thrown", desc := "()I" } : Jvm.MethodName) prog_15_method_2_code (1 : Nat) (Option.some Jvm.ClassFile.FieldType.int)) ∈ lw_all := lw_g (lw_at lw_m11 167 rfl) rfl
theorem q2866 : (Jvm.Cond.instanceMethod ({ cls := "SchemaWorkshopModel", name := "feed", desc := "(IIIII)I" } : Jvm.MethodName)) ∈ lw_all := lw_g (lw_at lw_m11 169 rfl) rfl
theorem q2867 : (Jvm.Cond.selects "SchemaWorkshopModel" ({ cls := "SchemaWorkshopModel", name := "feed", desc := "(IIIII)I" } : Jvm.MethodName) ({ cls := "SchemaWorkshopModel", name := "feed", desc := "(IIIII)I" } : Jvm.MethodName)) ∈ lw_all := lw_g (lw_at lw_m11 170 rfl) rfl
theorem q2868 : (Jvm.Cond.code ({ cls := "SchemaWorkshopModel", name := "feed", desc := "(IIIII)I" } : Jvm.MethodName) prog_15_method_12_code (8 : Nat) (Option.some Jvm.ClassFile.FieldType.int)) ∈ lw_all := lw_g (lw_at lw_m11 171 rfl) rfl
theorem q2869 : (Jvm.Cond.constant "SchemaWorkshopModel" (383 : Nat) (32768 : Int32)) ∈ lw_all := lw_g (lw_at lw_m11 172 rfl) rfl
theorem q2870 : (Jvm.Cond.methodLink "SchemaWorkshopModel" (384 : Nat) ({ cls := "SchemaWorkshopModel", name := "fail", desc := "(I)I" } : Jvm.MethodName)) ∈ lw_all := lw_g (lw_at lw_m11 173 rfl) rfl
theorem q2871 : (Jvm.Cond.privateMethod ({ cls := "SchemaWorkshopModel", name := "fail", desc := "(I)I" } : Jvm.MethodName)) ∈ lw_tbl := lw_at lw_m11 174 rfl
theorem q2872 : (Jvm.Cond.instanceMethod ({ cls := "SchemaWorkshopModel", name := "fail", desc := "(I)I" } : Jvm.MethodName)) ∈ lw_all := lw_g (lw_at lw_m11 175 rfl) rfl
theorem q2873 : (Jvm.Cond.code ({ cls := "SchemaWorkshopModel", name := "fail", desc := "(I)I" } : Jvm.MethodName) prog_15_method_3_code (2 : Nat) (Option.some Jvm.ClassFile.FieldType.int)) ∈ lw_all := lw_g (lw_at lw_m11 176 rfl) rfl
theorem q2875 : (Jvm.Cond.instanceMethod ({ cls := "SchemaWorkshopModel", name := "end", desc := "(I)I" } : Jvm.MethodName)) ∈ lw_all := lw_g (lw_at lw_m11 178 rfl) rfl
theorem q2876 : (Jvm.Cond.selects "SchemaWorkshopModel" ({ cls := "SchemaWorkshopModel", name := "end", desc := "(I)I" } : Jvm.MethodName) ({ cls := "SchemaWorkshopModel", name := "end", desc := "(I)I" } : Jvm.MethodName)) ∈ lw_all := lw_g (lw_at lw_m11 179 rfl) rfl
theorem q2877 : (Jvm.Cond.code ({ cls := "SchemaWorkshopModel", name := "end", desc := "(I)I" } : Jvm.MethodName) prog_15_method_13_code (2 : Nat) (Option.some Jvm.ClassFile.FieldType.int)) ∈ lw_all := lw_g (lw_at lw_m11 180 rfl) rfl
theorem q2878 : (Jvm.Cond.methodLink "SchemaWorkshopModel" (388 : Nat) ({ cls := "SchemaWorkshopModel", name := "within", desc := "(III)Z" } : Jvm.MethodName)) ∈ lw_all := lw_g (lw_at lw_m11 181 rfl) rfl
theorem q2879 : (Jvm.Cond.static ({ cls := "SchemaWorkshopModel", name := "within", desc := "(III)Z" } : Jvm.MethodName)) ∈ lw_all := lw_g (lw_at lw_m11 182 rfl) rfl
theorem q2880 : (Jvm.Cond.code ({ cls := "SchemaWorkshopModel", name := "within", desc := "(III)Z" } : Jvm.MethodName) prog_15_method_4_code (3 : Nat) (Option.some Jvm.ClassFile.FieldType.boolean)) ∈ lw_all := lw_g (lw_at lw_m11 183 rfl) rfl
theorem q2882 : (Jvm.Cond.instanceMethod ({ cls := "SchemaWorkshopModel", name := "compile", desc := "()I" } : Jvm.MethodName)) ∈ lw_all := lw_g (lw_at lw_m11 185 rfl) rfl
theorem q2883 : (Jvm.Cond.selects "SchemaWorkshopModel" ({ cls := "SchemaWorkshopModel", name := "compile", desc := "()I" } : Jvm.MethodName) ({ cls := "SchemaWorkshopModel", name := "compile", desc := "()I" } : Jvm.MethodName)) ∈ lw_all := lw_g (lw_at lw_m11 186 rfl) rfl
theorem q2884 : (Jvm.Cond.code ({ cls := "SchemaWorkshopModel", name := "compile", desc := "()I" } : Jvm.MethodName) prog_15_method_126_code (2 : Nat) (Option.some Jvm.ClassFile.FieldType.int)) ∈ lw_all := lw_g (lw_at lw_m11 187 rfl) rfl
theorem q2885 : (Jvm.Cond.methodLink "SchemaWorkshopModel" (820 : Nat) ({ cls := "SchemaWorkshopModel", name := "roomForLexemes", desc := "()V" } : Jvm.MethodName)) ∈ lw_all := lw_g (lw_at lw_m11 188 rfl) rfl
theorem q2886 : (Jvm.Cond.privateMethod ({ cls := "SchemaWorkshopModel", name := "roomForLexemes", desc := "()V" } : Jvm.MethodName)) ∈ lw_tbl := lw_at lw_m11 189 rfl
theorem q2887 : (Jvm.Cond.instanceMethod ({ cls := "SchemaWorkshopModel", name := "roomForLexemes", desc := "()V" } : Jvm.MethodName)) ∈ lw_all := lw_g (lw_at lw_m11 190 rfl) rfl
theorem q2888 : (Jvm.Cond.code ({ cls := "SchemaWorkshopModel", name := "roomForLexemes", desc := "()V" } : Jvm.MethodName) prog_15_method_7_code (2 : Nat) (Option.none : Option Jvm.ClassFile.FieldType)) ∈ lw_all := lw_g (lw_at lw_m11 191 rfl) rfl
theorem q2889 : (Jvm.Cond.constant "SchemaWorkshopModel" (362 : Nat) (32776 : Int32)) ∈ lw_all := lw_g (lw_at lw_m11 192 rfl) rfl
theorem q2890 : (Jvm.Cond.methodLink "SchemaWorkshopModel" (363 : Nat) ({ cls := "SchemaWorkshopModel", name := "room", desc := "(II)I" } : Jvm.MethodName)) ∈ lw_all := lw_g (lw_at lw_m11 193 rfl) rfl
theorem q2891 : (Jvm.Cond.static ({ cls := "SchemaWorkshopModel", name := "room", desc := "(II)I" } : Jvm.MethodName)) ∈ lw_all := lw_g (lw_at lw_m11 194 rfl) rfl
theorem q2892 : (Jvm.Cond.code ({ cls := "SchemaWorkshopModel", name := "room", desc := "(II)I" } : Jvm.MethodName) prog_15_method_6_code (2 : Nat) (Option.some Jvm.ClassFile.FieldType.int)) ∈ lw_all := lw_g (lw_at lw_m11 195 rfl) rfl
theorem q2893 : (Jvm.Cond.methodLink "SchemaWorkshopModel" (823 : Nat) ({ cls := "SchemaWorkshopModel", name := "cutText", desc := "()V" } : Jvm.MethodName)) ∈ lw_all := lw_g (lw_at lw_m11 196 rfl) rfl
theorem q2894 : (Jvm.Cond.privateMethod ({ cls := "SchemaWorkshopModel", name := "cutText", desc := "()V" } : Jvm.MethodName)) ∈ lw_tbl := lw_at lw_m11 197 rfl
theorem q2895 : (Jvm.Cond.instanceMethod ({ cls := "SchemaWorkshopModel", name := "cutText", desc := "()V" } : Jvm.MethodName)) ∈ lw_all := lw_g (lw_at lw_m11 198 rfl) rfl
theorem q2896 : (Jvm.Cond.code ({ cls := "SchemaWorkshopModel", name := "cutText", desc := "()V" } : Jvm.MethodName) prog_15_method_29_code (4 : Nat) (Option.none : Option Jvm.ClassFile.FieldType)) ∈ lw_all := lw_g (lw_at lw_m11 199 rfl) rfl
theorem q2897 : (Jvm.Cond.methodLink "SchemaWorkshopModel" (421 : Nat) ({ cls := "SchemaWorkshopModel", name := "skip", desc := "(I)I" } : Jvm.MethodName)) ∈ lw_all := lw_g (lw_at lw_m11 200 rfl) rfl
theorem q2898 : (Jvm.Cond.privateMethod ({ cls := "SchemaWorkshopModel", name := "skip", desc := "(I)I" } : Jvm.MethodName)) ∈ lw_tbl := lw_at lw_m11 201 rfl
theorem q2899 : (Jvm.Cond.instanceMethod ({ cls := "SchemaWorkshopModel", name := "skip", desc := "(I)I" } : Jvm.MethodName)) ∈ lw_all := lw_g (lw_at lw_m11 202 rfl) rfl
theorem q2900 : (Jvm.Cond.code ({ cls := "SchemaWorkshopModel", name := "skip", desc := "(I)I" } : Jvm.MethodName) prog_15_method_20_code (4 : Nat) (Option.some Jvm.ClassFile.FieldType.int)) ∈ lw_all := lw_g (lw_at lw_m11 203 rfl) rfl
theorem q2901 : (Jvm.Cond.methodLink "SchemaWorkshopModel" (402 : Nat) ({ cls := "SchemaWorkshopModel", name := "ch", desc := "(I)I" } : Jvm.MethodName)) ∈ lw_all := lw_g (lw_at lw_m11 204 rfl) rfl
theorem q2902 : (Jvm.Cond.privateMethod ({ cls := "SchemaWorkshopModel", name := "ch", desc := "(I)I" } : Jvm.MethodName)) ∈ lw_tbl := lw_at lw_m11 205 rfl
theorem q2903 : (Jvm.Cond.instanceMethod ({ cls := "SchemaWorkshopModel", name := "ch", desc := "(I)I" } : Jvm.MethodName)) ∈ lw_all := lw_g (lw_at lw_m11 206 rfl) rfl
theorem q2904 : (Jvm.Cond.code ({ cls := "SchemaWorkshopModel", name := "ch", desc := "(I)I" } : Jvm.MethodName) prog_15_method_14_code (2 : Nat) (Option.some Jvm.ClassFile.FieldType.int)) ∈ lw_all := lw_g (lw_at lw_m11 207 rfl) rfl
theorem q2905 : (Jvm.Cond.methodLink "SchemaWorkshopModel" (405 : Nat) ({ cls := "SchemaWorkshopModel", name := "isWhite", desc := "(I)Z" } : Jvm.MethodName)) ∈ lw_all := lw_g (lw_at lw_m11 208 rfl) rfl
theorem q2906 : (Jvm.Cond.static ({ cls := "SchemaWorkshopModel", name := "isWhite", desc := "(I)Z" } : Jvm.MethodName)) ∈ lw_all := lw_g (lw_at lw_m11 209 rfl) rfl
theorem q2907 : (Jvm.Cond.code ({ cls := "SchemaWorkshopModel", name := "isWhite", desc := "(I)Z" } : Jvm.MethodName) prog_15_method_19_code (1 : Nat) (Option.some Jvm.ClassFile.FieldType.boolean)) ∈ lw_all := lw_g (lw_at lw_m11 210 rfl) rfl
theorem q2908 : (Jvm.Cond.methodLink "SchemaWorkshopModel" (408 : Nat) ({ cls := "SchemaWorkshopModel", name := "skipLine", desc := "(I)I" } : Jvm.MethodName)) ∈ lw_all := lw_g (lw_at lw_m11 211 rfl) rfl
theorem q2909 : (Jvm.Cond.privateMethod ({ cls := "SchemaWorkshopModel", name := "skipLine", desc := "(I)I" } : Jvm.MethodName)) ∈ lw_tbl := lw_at lw_m11 212 rfl
theorem q2910 : (Jvm.Cond.instanceMethod ({ cls := "SchemaWorkshopModel", name := "skipLine", desc := "(I)I" } : Jvm.MethodName)) ∈ lw_all := lw_g (lw_at lw_m11 213 rfl) rfl
theorem q2911 : (Jvm.Cond.code ({ cls := "SchemaWorkshopModel", name := "skipLine", desc := "(I)I" } : Jvm.MethodName) prog_15_method_21_code (3 : Nat) (Option.some Jvm.ClassFile.FieldType.int)) ∈ lw_all := lw_g (lw_at lw_m11 214 rfl) rfl
theorem q2912 : (Jvm.Cond.methodLink "SchemaWorkshopModel" (411 : Nat) ({ cls := "SchemaWorkshopModel", name := "skipStars", desc := "(I)I" } : Jvm.MethodName)) ∈ lw_all := lw_g (lw_at lw_m11 215 rfl) rfl
theorem q2913 : (Jvm.Cond.privateMethod ({ cls := "SchemaWorkshopModel", name := "skipStars", desc := "(I)I" } : Jvm.MethodName)) ∈ lw_tbl := lw_at lw_m11 216 rfl
theorem q2914 : (Jvm.Cond.instanceMethod ({ cls := "SchemaWorkshopModel", name := "skipStars", desc := "(I)I" } : Jvm.MethodName)) ∈ lw_all := lw_g (lw_at lw_m11 217 rfl) rfl
theorem q2915 : (Jvm.Cond.code ({ cls := "SchemaWorkshopModel", name := "skipStars", desc := "(I)I" } : Jvm.MethodName) prog_15_method_22_code (4 : Nat) (Option.some Jvm.ClassFile.FieldType.int)) ∈ lw_all := lw_g (lw_at lw_m11 218 rfl) rfl
theorem q2916 : (Jvm.Cond.methodLink "SchemaWorkshopModel" (414 : Nat) ({ cls := "SchemaWorkshopModel", name := "tell", desc := "(II)V" } : Jvm.MethodName)) ∈ lw_all := lw_g (lw_at lw_m11 219 rfl) rfl
theorem q2917 : (Jvm.Cond.privateMethod ({ cls := "SchemaWorkshopModel", name := "tell", desc := "(II)V" } : Jvm.MethodName)) ∈ lw_tbl := lw_at lw_m11 220 rfl
theorem q2918 : (Jvm.Cond.instanceMethod ({ cls := "SchemaWorkshopModel", name := "tell", desc := "(II)V" } : Jvm.MethodName)) ∈ lw_all := lw_g (lw_at lw_m11 221 rfl) rfl
theorem q2919 : (Jvm.Cond.code ({ cls := "SchemaWorkshopModel", name := "tell", desc := "(II)V" } : Jvm.MethodName) prog_15_method_5_code (3 : Nat) (Option.none : Option Jvm.ClassFile.FieldType)) ∈ lw_all := lw_g (lw_at lw_m11 222 rfl) rfl
theorem q2920 : (Jvm.Cond.methodLink "SchemaWorkshopModel" (392 : Nat) ({ cls := "SchemaWorkshopModel", name := "isSmall", desc := "(I)Z" } : Jvm.MethodName)) ∈ lw_all := lw_g (lw_at lw_m11 223 rfl) rfl
theorem q2921 : (Jvm.Cond.static ({ cls := "SchemaWorkshopModel", name := "isSmall", desc := "(I)Z" } : Jvm.MethodName)) ∈ lw_all := lw_g (lw_at lw_m11 224 rfl) rfl
theorem q2922 : (Jvm.Cond.code ({ cls := "SchemaWorkshopModel", name := "isSmall", desc := "(I)Z" } : Jvm.MethodName) prog_15_method_15_code (1 : Nat) (Option.some Jvm.ClassFile.FieldType.boolean)) ∈ lw_all := lw_g (lw_at lw_m11 225 rfl) rfl
theorem q2923 : (Jvm.Cond.methodLink "SchemaWorkshopModel" (396 : Nat) ({ cls := "SchemaWorkshopModel", name := "isLarge", desc := "(I)Z" } : Jvm.MethodName)) ∈ lw_all := lw_g (lw_at lw_m11 226 rfl) rfl
theorem q2924 : (Jvm.Cond.static ({ cls := "SchemaWorkshopModel", name := "isLarge", desc := "(I)Z" } : Jvm.MethodName)) ∈ lw_all := lw_g (lw_at lw_m11 227 rfl) rfl
theorem q2925 : (Jvm.Cond.code ({ cls := "SchemaWorkshopModel", name := "isLarge", desc := "(I)Z" } : Jvm.MethodName) prog_15_method_16_code (1 : Nat) (Option.some Jvm.ClassFile.FieldType.boolean)) ∈ lw_all := lw_g (lw_at lw_m11 228 rfl) rfl
theorem q2926 : (Jvm.Cond.methodLink "SchemaWorkshopModel" (424 : Nat) ({ cls := "SchemaWorkshopModel", name := "nameEnd", desc := "(I)I" } : Jvm.MethodName)) ∈ lw_all := lw_g (lw_at lw_m11 229 rfl) rfl
theorem q2927 : (Jvm.Cond.privateMethod ({ cls := "SchemaWorkshopModel", name := "nameEnd", desc := "(I)I" } : Jvm.MethodName)) ∈ lw_tbl := lw_at lw_m11 230 rfl
theorem q2928 : (Jvm.Cond.instanceMethod ({ cls := "SchemaWorkshopModel", name := "nameEnd", desc := "(I)I" } : Jvm.MethodName)) ∈ lw_all := lw_g (lw_at lw_m11 231 rfl) rfl
theorem q2929 : (Jvm.Cond.code ({ cls := "SchemaWorkshopModel", name := "nameEnd", desc := "(I)I" } : Jvm.MethodName) prog_15_method_24_code (3 : Nat) (Option.some Jvm.ClassFile.FieldType.int)) ∈ lw_all := lw_g (lw_at lw_m11 232 rfl) rfl
theorem q2930 : (Jvm.Cond.methodLink "SchemaWorkshopModel" (418 : Nat) ({ cls := "SchemaWorkshopModel", name := "isNameChar", desc := "(I)Z" } : Jvm.MethodName)) ∈ lw_all := lw_g (lw_at lw_m11 233 rfl) rfl
theorem q2931 : (Jvm.Cond.static ({ cls := "SchemaWorkshopModel", name := "isNameChar", desc := "(I)Z" } : Jvm.MethodName)) ∈ lw_all := lw_g (lw_at lw_m11 234 rfl) rfl
theorem q2932 : (Jvm.Cond.code ({ cls := "SchemaWorkshopModel", name := "isNameChar", desc := "(I)Z" } : Jvm.MethodName) prog_15_method_18_code (1 : Nat) (Option.some Jvm.ClassFile.FieldType.boolean)) ∈ lw_all := lw_g (lw_at lw_m11 235 rfl) rfl
theorem q2933 : (Jvm.Cond.methodLink "SchemaWorkshopModel" (399 : Nat) ({ cls := "SchemaWorkshopModel", name := "isDigit", desc := "(I)Z" } : Jvm.MethodName)) ∈ lw_all := lw_g (lw_at lw_m11 236 rfl) rfl
theorem q2934 : (Jvm.Cond.static ({ cls := "SchemaWorkshopModel", name := "isDigit", desc := "(I)Z" } : Jvm.MethodName)) ∈ lw_all := lw_g (lw_at lw_m11 237 rfl) rfl
theorem q2935 : (Jvm.Cond.code ({ cls := "SchemaWorkshopModel", name := "isDigit", desc := "(I)Z" } : Jvm.MethodName) prog_15_method_17_code (1 : Nat) (Option.some Jvm.ClassFile.FieldType.boolean)) ∈ lw_all := lw_g (lw_at lw_m11 238 rfl) rfl
theorem q2936 : (Jvm.Cond.methodLink "SchemaWorkshopModel" (427 : Nat) ({ cls := "SchemaWorkshopModel", name := "wordAt", desc := "(II)I" } : Jvm.MethodName)) ∈ lw_all := lw_g (lw_at lw_m11 239 rfl) rfl
theorem q2937 : (Jvm.Cond.privateMethod ({ cls := "SchemaWorkshopModel", name := "wordAt", desc := "(II)I" } : Jvm.MethodName)) ∈ lw_tbl := lw_at lw_m12 0 rfl
theorem q2938 : (Jvm.Cond.instanceMethod ({ cls := "SchemaWorkshopModel", name := "wordAt", desc := "(II)I" } : Jvm.MethodName)) ∈ lw_all := lw_g (lw_at lw_m12 1 rfl) rfl
theorem q2939 : (Jvm.Cond.code ({ cls := "SchemaWorkshopModel", name := "wordAt", desc := "(II)I" } : Jvm.MethodName) prog_15_method_23_code (6 : Nat) (Option.some Jvm.ClassFile.FieldType.int)) ∈ lw_all := lw_g (lw_at lw_m12 2 rfl) rfl
theorem q2940 : (Jvm.Cond.methodLink "SchemaWorkshopModel" (430 : Nat) ({ cls := "SchemaWorkshopModel", name := "numberEnd", desc := "(I)I" } : Jvm.MethodName)) ∈ lw_all := lw_g (lw_at lw_m12 3 rfl) rfl
theorem q2941 : (Jvm.Cond.privateMethod ({ cls := "SchemaWorkshopModel", name := "numberEnd", desc := "(I)I" } : Jvm.MethodName)) ∈ lw_tbl := lw_at lw_m12 4 rfl
theorem q2942 : (Jvm.Cond.instanceMethod ({ cls := "SchemaWorkshopModel", name := "numberEnd", desc := "(I)I" } : Jvm.MethodName)) ∈ lw_all := lw_g (lw_at lw_m12 5 rfl) rfl
theorem q2943 : (Jvm.Cond.code ({ cls := "SchemaWorkshopModel", name := "numberEnd", desc := "(I)I" } : Jvm.MethodName) prog_15_method_27_code (3 : Nat) (Option.some Jvm.ClassFile.FieldType.int)) ∈ lw_all := lw_g (lw_at lw_m12 6 rfl) rfl
theorem q2944 : (Jvm.Cond.methodLink "SchemaWorkshopModel" (433 : Nat) ({ cls := "SchemaWorkshopModel", name := "quoted", desc := "(I)I" } : Jvm.MethodName)) ∈ lw_all := lw_g (lw_at lw_m12 7 rfl) rfl
theorem q2945 : (Jvm.Cond.privateMethod ({ cls := "SchemaWorkshopModel", name := "quoted", desc := "(I)I" } : Jvm.MethodName)) ∈ lw_tbl := lw_at lw_m12 8 rfl
theorem q2946 : (Jvm.Cond.instanceMethod ({ cls := "SchemaWorkshopModel", name := "quoted", desc := "(I)I" } : Jvm.MethodName)) ∈ lw_all := lw_g (lw_at lw_m12 9 rfl) rfl
theorem q2947 : (Jvm.Cond.code ({ cls := "SchemaWorkshopModel", name := "quoted", desc := "(I)I" } : Jvm.MethodName) prog_15_method_25_code (5 : Nat) (Option.some Jvm.ClassFile.FieldType.int)) ∈ lw_all := lw_g (lw_at lw_m12 10 rfl) rfl
theorem q2948 : (Jvm.Cond.methodLink "SchemaWorkshopModel" (436 : Nat) ({ cls := "SchemaWorkshopModel", name := "textEnd", desc := "(I)I" } : Jvm.MethodName)) ∈ lw_all := lw_g (lw_at lw_m12 11 rfl) rfl
theorem q2949 : (Jvm.Cond.privateMethod ({ cls := "SchemaWorkshopModel", name := "textEnd", desc := "(I)I" } : Jvm.MethodName)) ∈ lw_tbl := lw_at lw_m12 12 rfl
theorem q2950 : (Jvm.Cond.instanceMethod ({ cls := "SchemaWorkshopModel", name := "textEnd", desc := "(I)I" } : Jvm.MethodName)) ∈ lw_all := lw_g (lw_at lw_m12 13 rfl) rfl
theorem q2951 : (Jvm.Cond.code ({ cls := "SchemaWorkshopModel", name := "textEnd", desc := "(I)I" } : Jvm.MethodName) prog_15_method_26_code (3 : Nat) (Option.some Jvm.ClassFile.FieldType.int)) ∈ lw_all := lw_g (lw_at lw_m12 14 rfl) rfl
theorem q2952 : (Jvm.Cond.methodLink "SchemaWorkshopModel" (439 : Nat) ({ cls := "SchemaWorkshopModel", name := "signEnd", desc := "(I)I" } : Jvm.MethodName)) ∈ lw_all := lw_g (lw_at lw_m12 15 rfl) rfl
theorem q2953 : (Jvm.Cond.privateMethod ({ cls := "SchemaWorkshopModel", name := "signEnd", desc := "(I)I" } : Jvm.MethodName)) ∈ lw_tbl := lw_at lw_m12 16 rfl
theorem q2954 : (Jvm.Cond.instanceMethod ({ cls := "SchemaWorkshopModel", name := "signEnd", desc := "(I)I" } : Jvm.MethodName)) ∈ lw_all := lw_g (lw_at lw_m12 17 rfl) rfl
theorem q2955 : (Jvm.Cond.code ({ cls := "SchemaWorkshopModel", name := "signEnd", desc := "(I)I" } : Jvm.MethodName) prog_15_method_28_code (7 : Nat) (Option.some Jvm.ClassFile.FieldType.int)) ∈ lw_all := lw_g (lw_at lw_m12 18 rfl) rfl
theorem q2956 : (Jvm.Cond.methodLink "SchemaWorkshopModel" (826 : Nat) ({ cls := "SchemaWorkshopModel", name := "roomForTypes", desc := "()V" } : Jvm.MethodName)) ∈ lw_all := lw_g (lw_at lw_m12 19 rfl) rfl
theorem q2957 : (Jvm.Cond.privateMethod ({ cls := "SchemaWorkshopModel", name := "roomForTypes", desc := "()V" } : Jvm.MethodName)) ∈ lw_tbl := lw_at lw_m12 20 rfl
theorem q2958 : (Jvm.Cond.instanceMethod ({ cls := "SchemaWorkshopModel", name := "roomForTypes", desc := "()V" } : Jvm.MethodName)) ∈ lw_all := lw_g (lw_at lw_m12 21 rfl) rfl
theorem q2959 : (Jvm.Cond.code ({ cls := "SchemaWorkshopModel", name := "roomForTypes", desc := "()V" } : Jvm.MethodName) prog_15_method_8_code (2 : Nat) (Option.none : Option Jvm.ClassFile.FieldType)) ∈ lw_all := lw_g (lw_at lw_m12 22 rfl) rfl
theorem q2960 : (Jvm.Cond.methodLink "SchemaWorkshopModel" (829 : Nat) ({ cls := "SchemaWorkshopModel", name := "parseModule", desc := "()V" } : Jvm.MethodName)) ∈ lw_all := lw_g (lw_at lw_m12 23 rfl) rfl
theorem q2961 : (Jvm.Cond.privateMethod ({ cls := "SchemaWorkshopModel", name := "parseModule", desc := "()V" } : Jvm.MethodName)) ∈ lw_tbl := lw_at lw_m12 24 rfl
theorem q2962 : (Jvm.Cond.instanceMethod ({ cls := "SchemaWorkshopModel", name := "parseModule", desc := "()V" } : Jvm.MethodName)) ∈ lw_all := lw_g (lw_at lw_m12 25 rfl) rfl
theorem q2963 : (Jvm.Cond.code ({ cls := "SchemaWorkshopModel", name := "parseModule", desc := "()V" } : Jvm.MethodName) prog_15_method_42_code (1 : Nat) (Option.none : Option Jvm.ClassFile.FieldType)) ∈ lw_all := lw_g (lw_at lw_m12 26 rfl) rfl
theorem q2964 : (Jvm.Cond.methodLink "SchemaWorkshopModel" (473 : Nat) ({ cls := "SchemaWorkshopModel", name := "take", desc := "(I)I" } : Jvm.MethodName)) ∈ lw_all := lw_g (lw_at lw_m12 27 rfl) rfl
theorem q2965 : (Jvm.Cond.privateMethod ({ cls := "SchemaWorkshopModel", name := "take", desc := "(I)I" } : Jvm.MethodName)) ∈ lw_tbl := lw_at lw_m12 28 rfl
theorem q2966 : (Jvm.Cond.instanceMethod ({ cls := "SchemaWorkshopModel", name := "take", desc := "(I)I" } : Jvm.MethodName)) ∈ lw_all := lw_g (lw_at lw_m12 29 rfl) rfl
theorem q2967 : (Jvm.Cond.code ({ cls := "SchemaWorkshopModel", name := "take", desc := "(I)I" } : Jvm.MethodName) prog_15_method_32_code (2 : Nat) (Option.some Jvm.ClassFile.FieldType.int)) ∈ lw_all := lw_g (lw_at lw_m12 30 rfl) rfl
theorem q2968 : (Jvm.Cond.methodLink "SchemaWorkshopModel" (445 : Nat) ({ cls := "SchemaWorkshopModel", name := "is", desc := "(I)Z" } : Jvm.MethodName)) ∈ lw_all := lw_g (lw_at lw_m12 31 rfl) rfl
theorem q2969 : (Jvm.Cond.privateMethod ({ cls := "SchemaWorkshopModel", name := "is", desc := "(I)Z" } : Jvm.MethodName)) ∈ lw_tbl := lw_at lw_m12 32 rfl
theorem q2970 : (Jvm.Cond.instanceMethod ({ cls := "SchemaWorkshopModel", name := "is", desc := "(I)Z" } : Jvm.MethodName)) ∈ lw_all := lw_g (lw_at lw_m12 33 rfl) rfl
theorem q2971 : (Jvm.Cond.code ({ cls := "SchemaWorkshopModel", name := "is", desc := "(I)Z" } : Jvm.MethodName) prog_15_method_30_code (2 : Nat) (Option.some Jvm.ClassFile.FieldType.boolean)) ∈ lw_all := lw_g (lw_at lw_m12 34 rfl) rfl
theorem q2972 : (Jvm.Cond.methodLink "SchemaWorkshopModel" (448 : Nat) ({ cls := "SchemaWorkshopModel", name := "misfit", desc := "(Z)V" } : Jvm.MethodName)) ∈ lw_all := lw_g (lw_at lw_m12 35 rfl) rfl
theorem q2973 : (Jvm.Cond.privateMethod ({ cls := "SchemaWorkshopModel", name := "misfit", desc := "(Z)V" } : Jvm.MethodName)) ∈ lw_tbl := lw_at lw_m12 36 rfl
theorem q2974 : (Jvm.Cond.instanceMethod ({ cls := "SchemaWorkshopModel", name := "misfit", desc := "(Z)V" } : Jvm.MethodName)) ∈ lw_all := lw_g (lw_at lw_m12 37 rfl) rfl
theorem q2975 : (Jvm.Cond.code ({ cls := "SchemaWorkshopModel", name := "misfit", desc := "(Z)V" } : Jvm.MethodName) prog_15_method_31_code (5 : Nat) (Option.none : Option Jvm.ClassFile.FieldType)) ∈ lw_all := lw_g (lw_at lw_m12 38 rfl) rfl
theorem q2976 : (Jvm.Cond.methodLink "SchemaWorkshopModel" (476 : Nat) ({ cls := "SchemaWorkshopModel", name := "eat", desc := "(I)Z" } : Jvm.MethodName)) ∈ lw_all := lw_g (lw_at lw_m12 39 rfl) rfl
theorem q2977 : (Jvm.Cond.privateMethod ({ cls := "SchemaWorkshopModel", name := "eat", desc := "(I)Z" } : Jvm.MethodName)) ∈ lw_tbl := lw_at lw_m12 40 rfl
theorem q2978 : (Jvm.Cond.instanceMethod ({ cls := "SchemaWorkshopModel", name := "eat", desc := "(I)Z" } : Jvm.MethodName)) ∈ lw_all := lw_g (lw_at lw_m12 41 rfl) rfl
theorem q2979 : (Jvm.Cond.code ({ cls := "SchemaWorkshopModel", name := "eat", desc := "(I)Z" } : Jvm.MethodName) prog_15_method_33_code (2 : Nat) (Option.some Jvm.ClassFile.FieldType.boolean)) ∈ lw_all := lw_g (lw_at lw_m12 42 rfl) rfl
theorem q2980 : (Jvm.Cond.methodLink "SchemaWorkshopModel" (483 : Nat) ({ cls := "SchemaWorkshopModel", name := "assignment", desc := "()V" } : Jvm.MethodName)) ∈ lw_all := lw_g (lw_at lw_m12 43 rfl) rfl
theorem q2981 : (Jvm.Cond.privateMethod ({ cls := "SchemaWorkshopModel", name := "assignment", desc := "()V" } : Jvm.MethodName)) ∈ lw_tbl := lw_at lw_m12 44 rfl
theorem q2982 : (Jvm.Cond.instanceMethod ({ cls := "SchemaWorkshopModel", name := "assignment", desc := "()V" } : Jvm.MethodName)) ∈ lw_all := lw_g (lw_at lw_m12 45 rfl) rfl
theorem q2983 : (Jvm.Cond.code ({ cls := "SchemaWorkshopModel", name := "assignment", desc := "()V" } : Jvm.MethodName) prog_15_method_43_code (2 : Nat) (Option.none : Option Jvm.ClassFile.FieldType)) ∈ lw_all := lw_g (lw_at lw_m12 46 rfl) rfl
theorem q2984 : (Jvm.Cond.methodLink "SchemaWorkshopModel" (489 : Nat) ({ cls := "SchemaWorkshopModel", name := "parseType", desc := "()I" } : Jvm.MethodName)) ∈ lw_all := lw_g (lw_at lw_m12 47 rfl) rfl
theorem q2985 : (Jvm.Cond.privateMethod ({ cls := "SchemaWorkshopModel", name := "parseType", desc := "()I" } : Jvm.MethodName)) ∈ lw_tbl := lw_at lw_m12 48 rfl
theorem q2986 : (Jvm.Cond.instanceMethod ({ cls := "SchemaWorkshopModel", name := "parseType", desc := "()I" } : Jvm.MethodName)) ∈ lw_all := lw_g (lw_at lw_m12 49 rfl) rfl
theorem q2987 : (Jvm.Cond.code ({ cls := "SchemaWorkshopModel", name := "parseType", desc := "()I" } : Jvm.MethodName) prog_15_method_44_code (2 : Nat) (Option.some Jvm.ClassFile.FieldType.int)) ∈ lw_all := lw_g (lw_at lw_m12 50 rfl) rfl
theorem q2988 : (Jvm.Cond.methodLink "SchemaWorkshopModel" (508 : Nat) ({ cls := "SchemaWorkshopModel", name := "begin", desc := "()V" } : Jvm.MethodName)) ∈ lw_all := lw_g (lw_at lw_m12 51 rfl) rfl
theorem q2989 : (Jvm.Cond.privateMethod ({ cls := "SchemaWorkshopModel", name := "begin", desc := "()V" } : Jvm.MethodName)) ∈ lw_tbl := lw_at lw_m12 52 rfl
theorem q2990 : (Jvm.Cond.instanceMethod ({ cls := "SchemaWorkshopModel", name := "begin", desc := "()V" } : Jvm.MethodName)) ∈ lw_all := lw_g (lw_at lw_m12 53 rfl) rfl
theorem q2991 : (Jvm.Cond.code ({ cls := "SchemaWorkshopModel", name := "begin", desc := "()V" } : Jvm.MethodName) prog_15_method_45_code (2 : Nat) (Option.none : Option Jvm.ClassFile.FieldType)) ∈ lw_all := lw_g (lw_at lw_m12 54 rfl) rfl
theorem q2992 : (Jvm.Cond.methodLink "SchemaWorkshopModel" (523 : Nat) ({ cls := "SchemaWorkshopModel", name := "tag", desc := "(I)V" } : Jvm.MethodName)) ∈ lw_all := lw_g (lw_at lw_m12 55 rfl) rfl
theorem q2993 : (Jvm.Cond.privateMethod ({ cls := "SchemaWorkshopModel", name := "tag", desc := "(I)V" } : Jvm.MethodName)) ∈ lw_tbl := lw_at lw_m12 56 rfl
theorem q2994 : (Jvm.Cond.instanceMethod ({ cls := "SchemaWorkshopModel", name := "tag", desc := "(I)V" } : Jvm.MethodName)) ∈ lw_all := lw_g (lw_at lw_m12 57 rfl) rfl
theorem q2995 : (Jvm.Cond.code ({ cls := "SchemaWorkshopModel", name := "tag", desc := "(I)V" } : Jvm.MethodName) prog_15_method_46_code (4 : Nat) (Option.none : Option Jvm.ClassFile.FieldType)) ∈ lw_all := lw_g (lw_at lw_m12 58 rfl) rfl
theorem q2996 : (Jvm.Cond.methodLink "SchemaWorkshopModel" (529 : Nat) ({ cls := "SchemaWorkshopModel", name := "numberOf", desc := "(IZ)I" } : Jvm.MethodName)) ∈ lw_all := lw_g (lw_at lw_m12 59 rfl) rfl
theorem q2997 : (Jvm.Cond.privateMethod ({ cls := "SchemaWorkshopModel", name := "numberOf", desc := "(IZ)I" } : Jvm.MethodName)) ∈ lw_tbl := lw_at lw_m12 60 rfl
theorem q2998 : (Jvm.Cond.instanceMethod ({ cls := "SchemaWorkshopModel", name := "numberOf", desc := "(IZ)I" } : Jvm.MethodName)) ∈ lw_all := lw_g (lw_at lw_m12 61 rfl) rfl
theorem q2999 : (Jvm.Cond.code ({ cls := "SchemaWorkshopModel", name := "numberOf", desc := "(IZ)I" } : Jvm.MethodName) prog_15_method_38_code (3 : Nat) (Option.some Jvm.ClassFile.FieldType.int)) ∈ lw_all := lw_g (lw_at lw_m12 62 rfl) rfl
theorem q3000 : (Jvm.Cond.methodLink "SchemaWorkshopModel" (468 : Nat) ({ cls := "SchemaWorkshopModel", name := "makeNumber", desc := "(IZ)I" } : Jvm.MethodName)) ∈ lw_all := lw_g (lw_at lw_m12 63 rfl) rfl
theorem q3001 : (Jvm.Cond.privateMethod ({ cls := "SchemaWorkshopModel", name := "makeNumber", desc := "(IZ)I" } : Jvm.MethodName)) ∈ lw_tbl := lw_at lw_m12 64 rfl
theorem q3002 : (Jvm.Cond.instanceMethod ({ cls := "SchemaWorkshopModel", name := "makeNumber", desc := "(IZ)I" } : Jvm.MethodName)) ∈ lw_all := lw_g (lw_at lw_m12 65 rfl) rfl
theorem q3003 : (Jvm.Cond.code ({ cls := "SchemaWorkshopModel", name := "makeNumber", desc := "(IZ)I" } : Jvm.MethodName) prog_15_method_37_code (9 : Nat) (Option.some Jvm.ClassFile.FieldType.int)) ∈ lw_all := lw_g (lw_at lw_m12 66 rfl) rfl
theorem q3004 : (Jvm.Cond.methodLink "SchemaWorkshopModel" (458 : Nat) ({ cls := "SchemaWorkshopModel", name := "roomForDigits", desc := "(I)V" } : Jvm.MethodName)) ∈ lw_all := lw_g (lw_at lw_m12 67 rfl) rfl
theorem q3005 : (Jvm.Cond.privateMethod ({ cls := "SchemaWorkshopModel", name := "roomForDigits", desc := "(I)V" } : Jvm.MethodName)) ∈ lw_tbl := lw_at lw_m12 68 rfl
theorem q3006 : (Jvm.Cond.instanceMethod ({ cls := "SchemaWorkshopModel", name := "roomForDigits", desc := "(I)V" } : Jvm.MethodName)) ∈ lw_all := lw_g (lw_at lw_m12 69 rfl) rfl
theorem q3007 : (Jvm.Cond.code ({ cls := "SchemaWorkshopModel", name := "roomForDigits", desc := "(I)V" } : Jvm.MethodName) prog_15_method_35_code (2 : Nat) (Option.none : Option Jvm.ClassFile.FieldType)) ∈ lw_all := lw_g (lw_at lw_m12 70 rfl) rfl
theorem q3008 : (Jvm.Cond.methodLink "SchemaWorkshopModel" (462 : Nat) ({ cls := "SchemaWorkshopModel", name := "roomForBytes", desc := "(I)V" } : Jvm.MethodName)) ∈ lw_all := lw_g (lw_at lw_m12 71 rfl) rfl
theorem q3009 : (Jvm.Cond.privateMethod ({ cls := "SchemaWorkshopModel", name := "roomForBytes", desc := "(I)V" } : Jvm.MethodName)) ∈ lw_tbl := lw_at lw_m12 72 rfl
theorem q3010 : (Jvm.Cond.instanceMethod ({ cls := "SchemaWorkshopModel", name := "roomForBytes", desc := "(I)V" } : Jvm.MethodName)) ∈ lw_all := lw_g (lw_at lw_m12 73 rfl) rfl
theorem q3011 : (Jvm.Cond.code ({ cls := "SchemaWorkshopModel", name := "roomForBytes", desc := "(I)V" } : Jvm.MethodName) prog_15_method_34_code (3 : Nat) (Option.none : Option Jvm.ClassFile.FieldType)) ∈ lw_all := lw_g (lw_at lw_m12 74 rfl) rfl
theorem q3012 : (Jvm.Cond.methodLink "SchemaWorkshopModel" (376 : Nat) ({ cls := "SchemaWorkshopModel", name := "longer", desc := "([II)[I" } : Jvm.MethodName)) ∈ lw_all := lw_g (lw_at lw_m12 75 rfl) rfl
theorem q3013 : (Jvm.Cond.static ({ cls := "SchemaWorkshopModel", name := "longer", desc := "([II)[I" } : Jvm.MethodName)) ∈ lw_all := lw_g (lw_at lw_m12 76 rfl) rfl
theorem q3014 : (Jvm.Cond.code ({ cls := "SchemaWorkshopModel", name := "longer", desc := "([II)[I" } : Jvm.MethodName) prog_15_method_10_code (4 : Nat) (Option.some (Jvm.ClassFile.FieldType.array Jvm.ClassFile.FieldType.int))) ∈ lw_all := lw_g (lw_at lw_m12 77 rfl) rfl
theorem q3015 : (Jvm.Cond.methodLink "SchemaWorkshopModel" (465 : Nat) ({ cls := "SchemaWorkshopModel", name := "keepNumber", desc := "(I)I" } : Jvm.MethodName)) ∈ lw_all := lw_g (lw_at lw_m12 78 rfl) rfl
theorem q3016 : (Jvm.Cond.privateMethod ({ cls := "SchemaWorkshopModel", name := "keepNumber", desc := "(I)I" } : Jvm.MethodName)) ∈ lw_tbl := lw_at lw_m12 79 rfl
theorem q3017 : (Jvm.Cond.instanceMethod ({ cls := "SchemaWorkshopModel", name := "keepNumber", desc := "(I)I" } : Jvm.MethodName)) ∈ lw_all := lw_g (lw_at lw_m12 80 rfl) rfl
theorem q3018 : (Jvm.Cond.code ({ cls := "SchemaWorkshopModel", name := "keepNumber", desc := "(I)I" } : Jvm.MethodName) prog_15_method_36_code (6 : Nat) (Option.some Jvm.ClassFile.FieldType.int)) ∈ lw_all := lw_g (lw_at lw_m12 81 rfl) rfl
theorem q3019 : (Jvm.Cond.methodLink "SchemaWorkshopModel" (532 : Nat) ({ cls := "SchemaWorkshopModel", name := "asInt", desc := "(I)I" } : Jvm.MethodName)) ∈ lw_all := lw_g (lw_at lw_m12 82 rfl) rfl
theorem q3020 : (Jvm.Cond.privateMethod ({ cls := "SchemaWorkshopModel", name := "asInt", desc := "(I)I" } : Jvm.MethodName)) ∈ lw_tbl := lw_at lw_m12 83 rfl
theorem q3021 : (Jvm.Cond.instanceMethod ({ cls := "SchemaWorkshopModel", name := "asInt", desc := "(I)I" } : Jvm.MethodName)) ∈ lw_all := lw_g (lw_at lw_m12 84 rfl) rfl
theorem q3022 : (Jvm.Cond.code ({ cls := "SchemaWorkshopModel", name := "asInt", desc := "(I)I" } : Jvm.MethodName) prog_15_method_41_code (4 : Nat) (Option.some Jvm.ClassFile.FieldType.int)) ∈ lw_all := lw_g (lw_at lw_m12 85 rfl) rfl
theorem q3023 : (Jvm.Cond.constant "SchemaWorkshopModel" (472 : Nat) (2147483647 : Int32)) ∈ lw_all := lw_g (lw_at lw_m12 86 rfl) rfl
theorem q3024 : (Jvm.Cond.constant "SchemaWorkshopModel" (535 : Nat) (268435455 : Int32)) ∈ lw_all := lw_g (lw_at lw_m12 87 rfl) rfl
theorem q3025 : (Jvm.Cond.methodLink "SchemaWorkshopModel" (526 : Nat) ({ cls := "SchemaWorkshopModel", name := "base", desc := "(I)V" } : Jvm.MethodName)) ∈ lw_all := lw_g (lw_at lw_m12 88 rfl) rfl
theorem q3026 : (Jvm.Cond.privateMethod ({ cls := "SchemaWorkshopModel", name := "base", desc := "(I)V" } : Jvm.MethodName)) ∈ lw_tbl := lw_at lw_m12 89 rfl
theorem q3027 : (Jvm.Cond.instanceMethod ({ cls := "SchemaWorkshopModel", name := "base", desc := "(I)V" } : Jvm.MethodName)) ∈ lw_all := lw_g (lw_at lw_m12 90 rfl) rfl
theorem q3028 : (Jvm.Cond.code ({ cls := "SchemaWorkshopModel", name := "base", desc := "(I)V" } : Jvm.MethodName) prog_15_method_48_code (2 : Nat) (Option.none : Option Jvm.ClassFile.FieldType)) ∈ lw_all := lw_g (lw_at lw_m12 91 rfl) rfl
theorem q3029 : (Jvm.Cond.methodLink "SchemaWorkshopModel" (536 : Nat) ({ cls := "SchemaWorkshopModel", name := "simple", desc := "(III)Z" } : Jvm.MethodName)) ∈ lw_all := lw_g (lw_at lw_m12 92 rfl) rfl
theorem q3030 : (Jvm.Cond.privateMethod ({ cls := "SchemaWorkshopModel", name := "simple", desc := "(III)Z" } : Jvm.MethodName)) ∈ lw_tbl := lw_at lw_m12 93 rfl
theorem q3031 : (Jvm.Cond.instanceMethod ({ cls := "SchemaWorkshopModel", name := "simple", desc := "(III)Z" } : Jvm.MethodName)) ∈ lw_all := lw_g (lw_at lw_m12 94 rfl) rfl
theorem q3032 : (Jvm.Cond.code ({ cls := "SchemaWorkshopModel", name := "simple", desc := "(III)Z" } : Jvm.MethodName) prog_15_method_47_code (4 : Nat) (Option.some Jvm.ClassFile.FieldType.boolean)) ∈ lw_all := lw_g (lw_at lw_m12 95 rfl) rfl
theorem q3033 : (Jvm.Cond.methodLink "SchemaWorkshopModel" (539 : Nat) ({ cls := "SchemaWorkshopModel", name := "itemsOf", desc := "(I)V" } : Jvm.MethodName)) ∈ lw_all := lw_g (lw_at lw_m12 96 rfl) rfl
theorem q3034 : (Jvm.Cond.privateMethod ({ cls := "SchemaWorkshopModel", name := "itemsOf", desc := "(I)V" } : Jvm.MethodName)) ∈ lw_tbl := lw_at lw_m12 97 rfl
theorem q3035 : (Jvm.Cond.instanceMethod ({ cls := "SchemaWorkshopModel", name := "itemsOf", desc := "(I)V" } : Jvm.MethodName)) ∈ lw_all := lw_g (lw_at lw_m12 98 rfl) rfl
theorem q3036 : (Jvm.Cond.code ({ cls := "SchemaWorkshopModel", name := "itemsOf", desc := "(I)V" } : Jvm.MethodName) prog_15_method_53_code (4 : Nat) (Option.none : Option Jvm.ClassFile.FieldType)) ∈ lw_all := lw_g (lw_at lw_m12 99 rfl) rfl
theorem q3037 : (Jvm.Cond.methodLink "SchemaWorkshopModel" (542 : Nat) ({ cls := "SchemaWorkshopModel", name := "row", desc := "(I)V" } : Jvm.MethodName)) ∈ lw_all := lw_g (lw_at lw_m12 100 rfl) rfl
theorem q3038 : (Jvm.Cond.privateMethod ({ cls := "SchemaWorkshopModel", name := "row", desc := "(I)V" } : Jvm.MethodName)) ∈ lw_tbl := lw_at lw_m12 101 rfl
theorem q3039 : (Jvm.Cond.instanceMethod ({ cls := "SchemaWorkshopModel", name := "row", desc := "(I)V" } : Jvm.MethodName)) ∈ lw_all := lw_g (lw_at lw_m12 102 rfl) rfl
theorem q3040 : (Jvm.Cond.code ({ cls := "SchemaWorkshopModel", name := "row", desc := "(I)V" } : Jvm.MethodName) prog_15_method_49_code (3 : Nat) (Option.none : Option Jvm.ClassFile.FieldType)) ∈ lw_all := lw_g (lw_at lw_m12 103 rfl) rfl
theorem q3041 : (Jvm.Cond.methodLink "SchemaWorkshopModel" (545 : Nat) ({ cls := "SchemaWorkshopModel", name := "component", desc := "(II)V" } : Jvm.MethodName)) ∈ lw_all := lw_g (lw_at lw_m12 104 rfl) rfl
theorem q3042 : (Jvm.Cond.privateMethod ({ cls := "SchemaWorkshopModel", name := "component", desc := "(II)V" } : Jvm.MethodName)) ∈ lw_tbl := lw_at lw_m12 105 rfl
theorem q3043 : (Jvm.Cond.instanceMethod ({ cls := "SchemaWorkshopModel", name := "component", desc := "(II)V" } : Jvm.MethodName)) ∈ lw_all := lw_g (lw_at lw_m12 106 rfl) rfl
theorem q3044 : (Jvm.Cond.code ({ cls := "SchemaWorkshopModel", name := "component", desc := "(II)V" } : Jvm.MethodName) prog_15_method_51_code (4 : Nat) (Option.none : Option Jvm.ClassFile.FieldType)) ∈ lw_all := lw_g (lw_at lw_m12 107 rfl) rfl
theorem q3045 : (Jvm.Cond.methodLink "SchemaWorkshopModel" (548 : Nat) ({ cls := "SchemaWorkshopModel", name := "sizeOf", desc := "(IIZ)V" } : Jvm.MethodName)) ∈ lw_all := lw_g (lw_at lw_m12 108 rfl) rfl
theorem q3046 : (Jvm.Cond.privateMethod ({ cls := "SchemaWorkshopModel", name := "sizeOf", desc := "(IIZ)V" } : Jvm.MethodName)) ∈ lw_tbl := lw_at lw_m12 109 rfl
theorem q3047 : (Jvm.Cond.instanceMethod ({ cls := "SchemaWorkshopModel", name := "sizeOf", desc := "(IIZ)V" } : Jvm.MethodName)) ∈ lw_all := lw_g (lw_at lw_m12 110 rfl) rfl
theorem q3048 : (Jvm.Cond.code ({ cls := "SchemaWorkshopModel", name := "sizeOf", desc := "(IIZ)V" } : Jvm.MethodName) prog_15_method_50_code (6 : Nat) (Option.none : Option Jvm.ClassFile.FieldType)) ∈ lw_all := lw_g (lw_at lw_m12 111 rfl) rfl
theorem q3049 : (Jvm.Cond.methodLink "SchemaWorkshopModel" (552 : Nat) ({ cls := "SchemaWorkshopModel", name := "addLimit", desc := "(IIZ)I" } : Jvm.MethodName)) ∈ lw_all := lw_g (lw_at lw_m12 112 rfl) rfl
theorem q3050 : (Jvm.Cond.privateMethod ({ cls := "SchemaWorkshopModel", name := "addLimit", desc := "(IIZ)I" } : Jvm.MethodName)) ∈ lw_tbl := lw_at lw_m12 113 rfl
theorem q3051 : (Jvm.Cond.instanceMethod ({ cls := "SchemaWorkshopModel", name := "addLimit", desc := "(IIZ)I" } : Jvm.MethodName)) ∈ lw_all := lw_g (lw_at lw_m12 114 rfl) rfl
theorem q3052 : (Jvm.Cond.code ({ cls := "SchemaWorkshopModel", name := "addLimit", desc := "(IIZ)I" } : Jvm.MethodName) prog_15_method_54_code (6 : Nat) (Option.some Jvm.ClassFile.FieldType.int)) ∈ lw_all := lw_g (lw_at lw_m12 115 rfl) rfl
theorem q3053 : (Jvm.Cond.methodLink "SchemaWorkshopModel" (556 : Nat) ({ cls := "SchemaWorkshopModel", name := "rangesOf", desc := "(I)V" } : Jvm.MethodName)) ∈ lw_all := lw_g (lw_at lw_m12 116 rfl) rfl
theorem q3054 : (Jvm.Cond.privateMethod ({ cls := "SchemaWorkshopModel", name := "rangesOf", desc := "(I)V" } : Jvm.MethodName)) ∈ lw_tbl := lw_at lw_m12 117 rfl
theorem q3055 : (Jvm.Cond.instanceMethod ({ cls := "SchemaWorkshopModel", name := "rangesOf", desc := "(I)V" } : Jvm.MethodName)) ∈ lw_all := lw_g (lw_at lw_m12 118 rfl) rfl
theorem q3056 : (Jvm.Cond.code ({ cls := "SchemaWorkshopModel", name := "rangesOf", desc := "(I)V" } : Jvm.MethodName) prog_15_method_56_code (4 : Nat) (Option.none : Option Jvm.ClassFile.FieldType)) ∈ lw_all := lw_g (lw_at lw_m12 119 rfl) rfl
theorem q3057 : (Jvm.Cond.methodLink "SchemaWorkshopModel" (571 : Nat) ({ cls := "SchemaWorkshopModel", name := "bound", desc := "(Z)I" } : Jvm.MethodName)) ∈ lw_all := lw_g (lw_at lw_m12 120 rfl) rfl
theorem q3058 : (Jvm.Cond.privateMethod ({ cls := "SchemaWorkshopModel", name := "bound", desc := "(Z)I" } : Jvm.MethodName)) ∈ lw_tbl := lw_at lw_m12 121 rfl
theorem q3059 : (Jvm.Cond.instanceMethod ({ cls := "SchemaWorkshopModel", name := "bound", desc := "(Z)I" } : Jvm.MethodName)) ∈ lw_all := lw_g (lw_at lw_m12 122 rfl) rfl
theorem q3060 : (Jvm.Cond.code ({ cls := "SchemaWorkshopModel", name := "bound", desc := "(Z)I" } : Jvm.MethodName) prog_15_method_57_code (2 : Nat) (Option.some Jvm.ClassFile.FieldType.int)) ∈ lw_all := lw_g (lw_at lw_m12 123 rfl) rfl
theorem q3061 : (Jvm.Cond.methodLink "SchemaWorkshopModel" (511 : Nat) ({ cls := "SchemaWorkshopModel", name := "limitsOf", desc := "(I)V" } : Jvm.MethodName)) ∈ lw_all := lw_g (lw_at lw_m12 124 rfl) rfl
theorem q3062 : (Jvm.Cond.privateMethod ({ cls := "SchemaWorkshopModel", name := "limitsOf", desc := "(I)V" } : Jvm.MethodName)) ∈ lw_tbl := lw_at lw_m12 125 rfl
theorem q3063 : (Jvm.Cond.instanceMethod ({ cls := "SchemaWorkshopModel", name := "limitsOf", desc := "(I)V" } : Jvm.MethodName)) ∈ lw_all := lw_g (lw_at lw_m12 126 rfl) rfl
theorem q3064 : (Jvm.Cond.code ({ cls := "SchemaWorkshopModel", name := "limitsOf", desc := "(I)V" } : Jvm.MethodName) prog_15_method_55_code (4 : Nat) (Option.none : Option Jvm.ClassFile.FieldType)) ∈ lw_all := lw_g (lw_at lw_m12 127 rfl) rfl
theorem q3065 : (Jvm.Cond.methodLink "SchemaWorkshopModel" (514 : Nat) ({ cls := "SchemaWorkshopModel", name := "resume", desc := "()V" } : Jvm.MethodName)) ∈ lw_all := lw_g (lw_at lw_m12 128 rfl) rfl
theorem q3066 : (Jvm.Cond.privateMethod ({ cls := "SchemaWorkshopModel", name := "resume", desc := "()V" } : Jvm.MethodName)) ∈ lw_tbl := lw_at lw_m12 129 rfl
theorem q3067 : (Jvm.Cond.instanceMethod ({ cls := "SchemaWorkshopModel", name := "resume", desc := "()V" } : Jvm.MethodName)) ∈ lw_all := lw_g (lw_at lw_m12 130 rfl) rfl
theorem q3068 : (Jvm.Cond.code ({ cls := "SchemaWorkshopModel", name := "resume", desc := "()V" } : Jvm.MethodName) prog_15_method_52_code (3 : Nat) (Option.none : Option Jvm.ClassFile.FieldType)) ∈ lw_all := lw_g (lw_at lw_m12 131 rfl) rfl
theorem q3069 : (Jvm.Cond.methodLink "SchemaWorkshopModel" (496 : Nat) ({ cls := "SchemaWorkshopModel", name := "parseValue", desc := "(I)I" } : Jvm.MethodName)) ∈ lw_all := lw_g (lw_at lw_m12 132 rfl) rfl
theorem q3070 : (Jvm.Cond.privateMethod ({ cls := "SchemaWorkshopModel", name := "parseValue", desc := "(I)I" } : Jvm.MethodName)) ∈ lw_tbl := lw_at lw_m12 133 rfl
theorem q3071 : (Jvm.Cond.instanceMethod ({ cls := "SchemaWorkshopModel", name := "parseValue", desc := "(I)I" } : Jvm.MethodName)) ∈ lw_all := lw_g (lw_at lw_m12 134 rfl) rfl
theorem q3072 : (Jvm.Cond.code ({ cls := "SchemaWorkshopModel", name := "parseValue", desc := "(I)I" } : Jvm.MethodName) prog_15_method_58_code (3 : Nat) (Option.some Jvm.ClassFile.FieldType.int)) ∈ lw_all := lw_g (lw_at lw_m12 135 rfl) rfl
theorem q3073 : (Jvm.Cond.methodLink "SchemaWorkshopModel" (581 : Nat) ({ cls := "SchemaWorkshopModel", name := "partsOf", desc := "(I)V" } : Jvm.MethodName)) ∈ lw_all := lw_g (lw_at lw_m12 136 rfl) rfl
theorem q3074 : (Jvm.Cond.privateMethod ({ cls := "SchemaWorkshopModel", name := "partsOf", desc := "(I)V" } : Jvm.MethodName)) ∈ lw_tbl := lw_at lw_m12 137 rfl
theorem q3075 : (Jvm.Cond.instanceMethod ({ cls := "SchemaWorkshopModel", name := "partsOf", desc := "(I)V" } : Jvm.MethodName)) ∈ lw_all := lw_g (lw_at lw_m12 138 rfl) rfl
theorem q3076 : (Jvm.Cond.code ({ cls := "SchemaWorkshopModel", name := "partsOf", desc := "(I)V" } : Jvm.MethodName) prog_15_method_59_code (3 : Nat) (Option.none : Option Jvm.ClassFile.FieldType)) ∈ lw_all := lw_g (lw_at lw_m12 139 rfl) rfl
theorem q3077 : (Jvm.Cond.methodLink "SchemaWorkshopModel" (832 : Nat) ({ cls := "SchemaWorkshopModel", name := "checkTwice", desc := "()V" } : Jvm.MethodName)) ∈ lw_all := lw_g (lw_at lw_m12 140 rfl) rfl
theorem q3078 : (Jvm.Cond.privateMethod ({ cls := "SchemaWorkshopModel", name := "checkTwice", desc := "()V" } : Jvm.MethodName)) ∈ lw_tbl := lw_at lw_m12 141 rfl
theorem q3079 : (Jvm.Cond.instanceMethod ({ cls := "SchemaWorkshopModel", name := "checkTwice", desc := "()V" } : Jvm.MethodName)) ∈ lw_all := lw_g (lw_at lw_m12 142 rfl) rfl
theorem q3080 : (Jvm.Cond.code ({ cls := "SchemaWorkshopModel", name := "checkTwice", desc := "()V" } : Jvm.MethodName) prog_15_method_65_code (4 : Nat) (Option.none : Option Jvm.ClassFile.FieldType)) ∈ lw_all := lw_g (lw_at lw_m12 143 rfl) rfl
theorem q3081 : (Jvm.Cond.methodLink "SchemaWorkshopModel" (594 : Nat) ({ cls := "SchemaWorkshopModel", name := "assignmentOf", desc := "(I)I" } : Jvm.MethodName)) ∈ lw_all := lw_g (lw_at lw_m12 144 rfl) rfl
theorem q3082 : (Jvm.Cond.privateMethod ({ cls := "SchemaWorkshopModel", name := "assignmentOf", desc := "(I)I" } : Jvm.MethodName)) ∈ lw_tbl := lw_at lw_m12 145 rfl
theorem q3083 : (Jvm.Cond.instanceMethod ({ cls := "SchemaWorkshopModel", name := "assignmentOf", desc := "(I)I" } : Jvm.MethodName)) ∈ lw_all := lw_g (lw_at lw_m12 146 rfl) rfl
theorem q3084 : (Jvm.Cond.code ({ cls := "SchemaWorkshopModel", name := "assignmentOf", desc := "(I)I" } : Jvm.MethodName) prog_15_method_62_code (3 : Nat) (Option.some Jvm.ClassFile.FieldType.int)) ∈ lw_all := lw_g (lw_at lw_m12 147 rfl) rfl
theorem q3085 : (Jvm.Cond.methodLink "SchemaWorkshopModel" (584 : Nat) ({ cls := "SchemaWorkshopModel", name := "hash", desc := "(I)I" } : Jvm.MethodName)) ∈ lw_all := lw_g (lw_at lw_m12 148 rfl) rfl
theorem q3086 : (Jvm.Cond.privateMethod ({ cls := "SchemaWorkshopModel", name := "hash", desc := "(I)I" } : Jvm.MethodName)) ∈ lw_tbl := lw_at lw_m12 149 rfl
theorem q3087 : (Jvm.Cond.instanceMethod ({ cls := "SchemaWorkshopModel", name := "hash", desc := "(I)I" } : Jvm.MethodName)) ∈ lw_all := lw_g (lw_at lw_m12 150 rfl) rfl
theorem q3088 : (Jvm.Cond.code ({ cls := "SchemaWorkshopModel", name := "hash", desc := "(I)I" } : Jvm.MethodName) prog_15_method_61_code (4 : Nat) (Option.some Jvm.ClassFile.FieldType.int)) ∈ lw_all := lw_g (lw_at lw_m12 151 rfl) rfl
theorem q3089 : (Jvm.Cond.methodLink "SchemaWorkshopModel" (587 : Nat) ({ cls := "SchemaWorkshopModel", name := "sameName", desc := "(II)Z" } : Jvm.MethodName)) ∈ lw_all := lw_g (lw_at lw_m12 152 rfl) rfl
theorem q3090 : (Jvm.Cond.privateMethod ({ cls := "SchemaWorkshopModel", name := "sameName", desc := "(II)Z" } : Jvm.MethodName)) ∈ lw_tbl := lw_at lw_m12 153 rfl
theorem q3091 : (Jvm.Cond.instanceMethod ({ cls := "SchemaWorkshopModel", name := "sameName", desc := "(II)Z" } : Jvm.MethodName)) ∈ lw_all := lw_g (lw_at lw_m12 154 rfl) rfl
theorem q3092 : (Jvm.Cond.code ({ cls := "SchemaWorkshopModel", name := "sameName", desc := "(II)Z" } : Jvm.MethodName) prog_15_method_60_code (5 : Nat) (Option.some Jvm.ClassFile.FieldType.boolean)) ∈ lw_all := lw_g (lw_at lw_m12 155 rfl) rfl
theorem q3093 : (Jvm.Cond.methodLink "SchemaWorkshopModel" (597 : Nat) ({ cls := "SchemaWorkshopModel", name := "first", desc := "(I)V" } : Jvm.MethodName)) ∈ lw_all := lw_g (lw_at lw_m12 156 rfl) rfl
theorem q3094 : (Jvm.Cond.privateMethod ({ cls := "SchemaWorkshopModel", name := "first", desc := "(I)V" } : Jvm.MethodName)) ∈ lw_tbl := lw_at lw_m12 157 rfl
theorem q3095 : (Jvm.Cond.instanceMethod ({ cls := "SchemaWorkshopModel", name := "first", desc := "(I)V" } : Jvm.MethodName)) ∈ lw_all := lw_g (lw_at lw_m12 158 rfl) rfl
theorem q3096 : (Jvm.Cond.code ({ cls := "SchemaWorkshopModel", name := "first", desc := "(I)V" } : Jvm.MethodName) prog_15_method_63_code (2 : Nat) (Option.none : Option Jvm.ClassFile.FieldType)) ∈ lw_all := lw_g (lw_at lw_m12 159 rfl) rfl
theorem q3097 : (Jvm.Cond.methodLink "SchemaWorkshopModel" (600 : Nat) ({ cls := "SchemaWorkshopModel", name := "compareNumbers", desc := "(II)I" } : Jvm.MethodName)) ∈ lw_all := lw_g (lw_at lw_m12 160 rfl) rfl
theorem q3098 : (Jvm.Cond.privateMethod ({ cls := "SchemaWorkshopModel", name := "compareNumbers", desc := "(II)I" } : Jvm.MethodName)) ∈ lw_tbl := lw_at lw_m12 161 rfl
theorem q3099 : (Jvm.Cond.instanceMethod ({ cls := "SchemaWorkshopModel", name := "compareNumbers", desc := "(II)I" } : Jvm.MethodName)) ∈ lw_all := lw_g (lw_at lw_m12 162 rfl) rfl
theorem q3100 : (Jvm.Cond.code ({ cls := "SchemaWorkshopModel", name := "compareNumbers", desc := "(II)I" } : Jvm.MethodName) prog_15_method_40_code (6 : Nat) (Option.some Jvm.ClassFile.FieldType.int)) ∈ lw_all := lw_g (lw_at lw_m12 163 rfl) rfl
theorem q3101 : (Jvm.Cond.methodLink "SchemaWorkshopModel" (603 : Nat) ({ cls := "SchemaWorkshopModel", name := "told", desc := "(I)V" } : Jvm.MethodName)) ∈ lw_all := lw_g (lw_at lw_m12 164 rfl) rfl
theorem q3102 : (Jvm.Cond.privateMethod ({ cls := "SchemaWorkshopModel", name := "told", desc := "(I)V" } : Jvm.MethodName)) ∈ lw_tbl := lw_at lw_m12 165 rfl
theorem q3103 : (Jvm.Cond.instanceMethod ({ cls := "SchemaWorkshopModel", name := "told", desc := "(I)V" } : Jvm.MethodName)) ∈ lw_all := lw_g (lw_at lw_m12 166 rfl) rfl
theorem q3104 : (Jvm.Cond.code ({ cls := "SchemaWorkshopModel", name := "told", desc := "(I)V" } : Jvm.MethodName) prog_15_method_64_code (2 : Nat) (Option.none : Option Jvm.ClassFile.FieldType)) ∈ lw_all := lw_g (lw_at lw_m12 167 rfl) rfl
theorem q3105 : (Jvm.Cond.methodLink "SchemaWorkshopModel" (835 : Nat) ({ cls := "SchemaWorkshopModel", name := "countItems", desc := "()V" } : Jvm.MethodName)) ∈ lw_all := lw_g (lw_at lw_m12 168 rfl) rfl
theorem q3106 : (Jvm.Cond.privateMethod ({ cls := "SchemaWorkshopModel", name := "countItems", desc := "()V" } : Jvm.MethodName)) ∈ lw_tbl := lw_at lw_m12 169 rfl
theorem q3107 : (Jvm.Cond.instanceMethod ({ cls := "SchemaWorkshopModel", name := "countItems", desc := "()V" } : Jvm.MethodName)) ∈ lw_all := lw_g (lw_at lw_m12 170 rfl) rfl
theorem q3108 : (Jvm.Cond.code ({ cls := "SchemaWorkshopModel", name := "countItems", desc := "()V" } : Jvm.MethodName) prog_15_method_66_code (5 : Nat) (Option.none : Option Jvm.ClassFile.FieldType)) ∈ lw_all := lw_g (lw_at lw_m12 171 rfl) rfl
theorem q3109 : (Jvm.Cond.methodLink "SchemaWorkshopModel" (606 : Nat) ({ cls := "SchemaWorkshopModel", name := "smallNumber", desc := "(I)I" } : Jvm.MethodName)) ∈ lw_all := lw_g (lw_at lw_m12 172 rfl) rfl
theorem q3110 : (Jvm.Cond.privateMethod ({ cls := "SchemaWorkshopModel", name := "smallNumber", desc := "(I)I" } : Jvm.MethodName)) ∈ lw_tbl := lw_at lw_m12 173 rfl
theorem q3111 : (Jvm.Cond.instanceMethod ({ cls := "SchemaWorkshopModel", name := "smallNumber", desc := "(I)I" } : Jvm.MethodName)) ∈ lw_all := lw_g (lw_at lw_m12 174 rfl) rfl
theorem q3112 : (Jvm.Cond.code ({ cls := "SchemaWorkshopModel", name := "smallNumber", desc := "(I)I" } : Jvm.MethodName) prog_15_method_39_code (4 : Nat) (Option.some Jvm.ClassFile.FieldType.int)) ∈ lw_all := lw_g (lw_at lw_m12 175 rfl) rfl
theorem q3113 : (Jvm.Cond.methodLink "SchemaWorkshopModel" (609 : Nat) ({ cls := "SchemaWorkshopModel", name := "hasNumber", desc := "(II)Z" } : Jvm.MethodName)) ∈ lw_all := lw_g (lw_at lw_m12 176 rfl) rfl
theorem q3114 : (Jvm.Cond.privateMethod ({ cls := "SchemaWorkshopModel", name := "hasNumber", desc := "(II)Z" } : Jvm.MethodName)) ∈ lw_tbl := lw_at lw_m12 177 rfl
theorem q3115 : (Jvm.Cond.instanceMethod ({ cls := "SchemaWorkshopModel", name := "hasNumber", desc := "(II)Z" } : Jvm.MethodName)) ∈ lw_all := lw_g (lw_at lw_m12 178 rfl) rfl
theorem q3116 : (Jvm.Cond.code ({ cls := "SchemaWorkshopModel", name := "hasNumber", desc := "(II)Z" } : Jvm.MethodName) prog_15_method_67_code (5 : Nat) (Option.some Jvm.ClassFile.FieldType.boolean)) ∈ lw_all := lw_g (lw_at lw_m12 179 rfl) rfl
theorem q3117 : (Jvm.Cond.methodLink "SchemaWorkshopModel" (838 : Nat) ({ cls := "SchemaWorkshopModel", name := "checkUnknown", desc := "()V" } : Jvm.MethodName)) ∈ lw_all := lw_g (lw_at lw_m12 180 rfl) rfl
theorem q3118 : (Jvm.Cond.privateMethod ({ cls := "SchemaWorkshopModel", name := "checkUnknown", desc := "()V" } : Jvm.MethodName)) ∈ lw_tbl := lw_at lw_m12 181 rfl
theorem q3119 : (Jvm.Cond.instanceMethod ({ cls := "SchemaWorkshopModel", name := "checkUnknown", desc := "()V" } : Jvm.MethodName)) ∈ lw_all := lw_g (lw_at lw_m12 182 rfl) rfl
theorem q3120 : (Jvm.Cond.code ({ cls := "SchemaWorkshopModel", name := "checkUnknown", desc := "()V" } : Jvm.MethodName) prog_15_method_71_code (4 : Nat) (Option.none : Option Jvm.ClassFile.FieldType)) ∈ lw_all := lw_g (lw_at lw_m12 183 rfl) rfl
theorem q3121 : (Jvm.Cond.methodLink "SchemaWorkshopModel" (618 : Nat) ({ cls := "SchemaWorkshopModel", name := "checkBound", desc := "(II)V" } : Jvm.MethodName)) ∈ lw_all := lw_g (lw_at lw_m12 184 rfl) rfl
theorem q3122 : (Jvm.Cond.privateMethod ({ cls := "SchemaWorkshopModel", name := "checkBound", desc := "(II)V" } : Jvm.MethodName)) ∈ lw_tbl := lw_at lw_m12 185 rfl
theorem q3123 : (Jvm.Cond.instanceMethod ({ cls := "SchemaWorkshopModel", name := "checkBound", desc := "(II)V" } : Jvm.MethodName)) ∈ lw_all := lw_g (lw_at lw_m12 186 rfl) rfl
theorem q3124 : (Jvm.Cond.code ({ cls := "SchemaWorkshopModel", name := "checkBound", desc := "(II)V" } : Jvm.MethodName) prog_15_method_72_code (3 : Nat) (Option.none : Option Jvm.ClassFile.FieldType)) ∈ lw_all := lw_g (lw_at lw_m12 187 rfl) rfl
theorem q3125 : (Jvm.Cond.methodLink "SchemaWorkshopModel" (621 : Nat) ({ cls := "SchemaWorkshopModel", name := "itemOf", desc := "(IIZ)I" } : Jvm.MethodName)) ∈ lw_all := lw_g (lw_at lw_m12 188 rfl) rfl
theorem q3126 : (Jvm.Cond.privateMethod ({ cls := "SchemaWorkshopModel", name := "itemOf", desc := "(IIZ)I" } : Jvm.MethodName)) ∈ lw_tbl := lw_at lw_m12 189 rfl
theorem q3127 : (Jvm.Cond.instanceMethod ({ cls := "SchemaWorkshopModel", name := "itemOf", desc := "(IIZ)I" } : Jvm.MethodName)) ∈ lw_all := lw_g (lw_at lw_m12 190 rfl) rfl
theorem q3128 : (Jvm.Cond.code ({ cls := "SchemaWorkshopModel", name := "itemOf", desc := "(IIZ)I" } : Jvm.MethodName) prog_15_method_69_code (5 : Nat) (Option.some Jvm.ClassFile.FieldType.int)) ∈ lw_all := lw_g (lw_at lw_m12 191 rfl) rfl
theorem q3129 : (Jvm.Cond.methodLink "SchemaWorkshopModel" (612 : Nat) ({ cls := "SchemaWorkshopModel", name := "root", desc := "(I)I" } : Jvm.MethodName)) ∈ lw_all := lw_g (lw_at lw_m12 192 rfl) rfl
theorem q3130 : (Jvm.Cond.privateMethod ({ cls := "SchemaWorkshopModel", name := "root", desc := "(I)I" } : Jvm.MethodName)) ∈ lw_tbl := lw_at lw_m12 193 rfl
theorem q3131 : (Jvm.Cond.instanceMethod ({ cls := "SchemaWorkshopModel", name := "root", desc := "(I)I" } : Jvm.MethodName)) ∈ lw_all := lw_g (lw_at lw_m12 194 rfl) rfl
theorem q3132 : (Jvm.Cond.code ({ cls := "SchemaWorkshopModel", name := "root", desc := "(I)I" } : Jvm.MethodName) prog_15_method_68_code (5 : Nat) (Option.some Jvm.ClassFile.FieldType.int)) ∈ lw_all := lw_g (lw_at lw_m12 195 rfl) rfl
theorem q3133 : (Jvm.Cond.methodLink "SchemaWorkshopModel" (615 : Nat) ({ cls := "SchemaWorkshopModel", name := "itemIn", desc := "(II)I" } : Jvm.MethodName)) ∈ lw_all := lw_g (lw_at lw_m12 196 rfl) rfl
theorem q3134 : (Jvm.Cond.privateMethod ({ cls := "SchemaWorkshopModel", name := "itemIn", desc := "(II)I" } : Jvm.MethodName)) ∈ lw_tbl := lw_at lw_m12 197 rfl
theorem q3135 : (Jvm.Cond.instanceMethod ({ cls := "SchemaWorkshopModel", name := "itemIn", desc := "(II)I" } : Jvm.MethodName)) ∈ lw_all := lw_g (lw_at lw_m12 198 rfl) rfl
theorem q3136 : (Jvm.Cond.code ({ cls := "SchemaWorkshopModel", name := "itemIn", desc := "(II)I" } : Jvm.MethodName) prog_15_method_70_code (4 : Nat) (Option.some Jvm.ClassFile.FieldType.int)) ∈ lw_all := lw_g (lw_at lw_m12 199 rfl) rfl
theorem q3137 : (Jvm.Cond.methodLink "SchemaWorkshopModel" (841 : Nat) ({ cls := "SchemaWorkshopModel", name := "checkEndless", desc := "()V" } : Jvm.MethodName)) ∈ lw_all := lw_g (lw_at lw_m12 200 rfl) rfl
theorem q3138 : (Jvm.Cond.privateMethod ({ cls := "SchemaWorkshopModel", name := "checkEndless", desc := "()V" } : Jvm.MethodName)) ∈ lw_tbl := lw_at lw_m12 201 rfl
theorem q3139 : (Jvm.Cond.instanceMethod ({ cls := "SchemaWorkshopModel", name := "checkEndless", desc := "()V" } : Jvm.MethodName)) ∈ lw_all := lw_g (lw_at lw_m12 202 rfl) rfl
theorem q3140 : (Jvm.Cond.code ({ cls := "SchemaWorkshopModel", name := "checkEndless", desc := "()V" } : Jvm.MethodName) prog_15_method_74_code (3 : Nat) (Option.none : Option Jvm.ClassFile.FieldType)) ∈ lw_all := lw_g (lw_at lw_m12 203 rfl) rfl
theorem q3141 : (Jvm.Cond.methodLink "SchemaWorkshopModel" (624 : Nat) ({ cls := "SchemaWorkshopModel", name := "isFinite", desc := "(I)Z" } : Jvm.MethodName)) ∈ lw_all := lw_g (lw_at lw_m12 204 rfl) rfl
theorem q3142 : (Jvm.Cond.privateMethod ({ cls := "SchemaWorkshopModel", name := "isFinite", desc := "(I)Z" } : Jvm.MethodName)) ∈ lw_tbl := lw_at lw_m12 205 rfl
theorem q3143 : (Jvm.Cond.instanceMethod ({ cls := "SchemaWorkshopModel", name := "isFinite", desc := "(I)Z" } : Jvm.MethodName)) ∈ lw_all := lw_g (lw_at lw_m12 206 rfl) rfl
theorem q3144 : (Jvm.Cond.code ({ cls := "SchemaWorkshopModel", name := "isFinite", desc := "(I)Z" } : Jvm.MethodName) prog_15_method_73_code (6 : Nat) (Option.some Jvm.ClassFile.FieldType.boolean)) ∈ lw_all := lw_g (lw_at lw_m12 207 rfl) rfl
theorem q3145 : (Jvm.Cond.methodLink "SchemaWorkshopModel" (844 : Nat) ({ cls := "SchemaWorkshopModel", name := "checkTags", desc := "()V" } : Jvm.MethodName)) ∈ lw_all := lw_g (lw_at lw_m12 208 rfl) rfl
theorem q3146 : (Jvm.Cond.privateMethod ({ cls := "SchemaWorkshopModel", name := "checkTags", desc := "()V" } : Jvm.MethodName)) ∈ lw_tbl := lw_at lw_m12 209 rfl
theorem q3147 : (Jvm.Cond.instanceMethod ({ cls := "SchemaWorkshopModel", name := "checkTags", desc := "()V" } : Jvm.MethodName)) ∈ lw_all := lw_g (lw_at lw_m12 210 rfl) rfl
theorem q3148 : (Jvm.Cond.code ({ cls := "SchemaWorkshopModel", name := "checkTags", desc := "()V" } : Jvm.MethodName) prog_15_method_78_code (3 : Nat) (Option.none : Option Jvm.ClassFile.FieldType)) ∈ lw_all := lw_g (lw_at lw_m12 211 rfl) rfl
theorem q3149 : (Jvm.Cond.methodLink "SchemaWorkshopModel" (637 : Nat) ({ cls := "SchemaWorkshopModel", name := "isBareChoice", desc := "(I)Z" } : Jvm.MethodName)) ∈ lw_all := lw_g (lw_at lw_m12 212 rfl) rfl
theorem q3150 : (Jvm.Cond.privateMethod ({ cls := "SchemaWorkshopModel", name := "isBareChoice", desc := "(I)Z" } : Jvm.MethodName)) ∈ lw_tbl := lw_at lw_m12 213 rfl
theorem q3151 : (Jvm.Cond.instanceMethod ({ cls := "SchemaWorkshopModel", name := "isBareChoice", desc := "(I)Z" } : Jvm.MethodName)) ∈ lw_all := lw_g (lw_at lw_m12 214 rfl) rfl
theorem q3152 : (Jvm.Cond.code ({ cls := "SchemaWorkshopModel", name := "isBareChoice", desc := "(I)Z" } : Jvm.MethodName) prog_15_method_77_code (3 : Nat) (Option.some Jvm.ClassFile.FieldType.boolean)) ∈ lw_all := lw_g (lw_at lw_m12 215 rfl) rfl
theorem q3153 : (Jvm.Cond.methodLink "SchemaWorkshopModel" (640 : Nat) ({ cls := "SchemaWorkshopModel", name := "findLayers", desc := "(I)V" } : Jvm.MethodName)) ∈ lw_all := lw_g (lw_at lw_m12 216 rfl) rfl
theorem q3154 : (Jvm.Cond.privateMethod ({ cls := "SchemaWorkshopModel", name := "findLayers", desc := "(I)V" } : Jvm.MethodName)) ∈ lw_tbl := lw_at lw_m12 217 rfl
theorem q3155 : (Jvm.Cond.instanceMethod ({ cls := "SchemaWorkshopModel", name := "findLayers", desc := "(I)V" } : Jvm.MethodName)) ∈ lw_all := lw_g (lw_at lw_m12 218 rfl) rfl
theorem q3156 : (Jvm.Cond.code ({ cls := "SchemaWorkshopModel", name := "findLayers", desc := "(I)V" } : Jvm.MethodName) prog_15_method_76_code (7 : Nat) (Option.none : Option Jvm.ClassFile.FieldType)) ∈ lw_all := lw_g (lw_at lw_m12 219 rfl) rfl
theorem q3157 : (Jvm.Cond.methodLink "SchemaWorkshopModel" (633 : Nat) ({ cls := "SchemaWorkshopModel", name := "tagOf", desc := "(II)J" } : Jvm.MethodName)) ∈ lw_all := lw_g (lw_at lw_m12 220 rfl) rfl
theorem q3158 : (Jvm.Cond.static ({ cls := "SchemaWorkshopModel", name := "tagOf", desc := "(II)J" } : Jvm.MethodName)) ∈ lw_all := lw_g (lw_at lw_m12 221 rfl) rfl
theorem q3159 : (Jvm.Cond.code ({ cls := "SchemaWorkshopModel", name := "tagOf", desc := "(II)J" } : Jvm.MethodName) prog_15_method_75_code (2 : Nat) (Option.some Jvm.ClassFile.FieldType.long)) ∈ lw_all := lw_g (lw_at lw_m12 222 rfl) rfl
theorem q3160 : (Jvm.Cond.methodLink "SchemaWorkshopModel" (847 : Nat) ({ cls := "SchemaWorkshopModel", name := "checkRows", desc := "()V" } : Jvm.MethodName)) ∈ lw_all := lw_g (lw_at lw_m12 223 rfl) rfl
theorem q3161 : (Jvm.Cond.privateMethod ({ cls := "SchemaWorkshopModel", name := "checkRows", desc := "()V" } : Jvm.MethodName)) ∈ lw_tbl := lw_at lw_m12 224 rfl
theorem q3162 : (Jvm.Cond.instanceMethod ({ cls := "SchemaWorkshopModel", name := "checkRows", desc := "()V" } : Jvm.MethodName)) ∈ lw_all := lw_g (lw_at lw_m12 225 rfl) rfl
theorem q3163 : (Jvm.Cond.code ({ cls := "SchemaWorkshopModel", name := "checkRows", desc := "()V" } : Jvm.MethodName) prog_15_method_81_code (6 : Nat) (Option.none : Option Jvm.ClassFile.FieldType)) ∈ lw_all := lw_g (lw_at lw_m12 226 rfl) rfl
theorem q3164 : (Jvm.Cond.methodLink "SchemaWorkshopModel" (650 : Nat) ({ cls := "SchemaWorkshopModel", name := "gatherTags", desc := "(I)V" } : Jvm.MethodName)) ∈ lw_all := lw_g (lw_at lw_m12 227 rfl) rfl
theorem q3165 : (Jvm.Cond.privateMethod ({ cls := "SchemaWorkshopModel", name := "gatherTags", desc := "(I)V" } : Jvm.MethodName)) ∈ lw_tbl := lw_at lw_m12 228 rfl
theorem q3166 : (Jvm.Cond.instanceMethod ({ cls := "SchemaWorkshopModel", name := "gatherTags", desc := "(I)V" } : Jvm.MethodName)) ∈ lw_all := lw_g (lw_at lw_m12 229 rfl) rfl
theorem q3167 : (Jvm.Cond.code ({ cls := "SchemaWorkshopModel", name := "gatherTags", desc := "(I)V" } : Jvm.MethodName) prog_15_method_79_code (6 : Nat) (Option.none : Option Jvm.ClassFile.FieldType)) ∈ lw_all := lw_g (lw_at lw_m12 230 rfl) rfl
theorem q3168 : (Jvm.Cond.methodLink "SchemaWorkshopModel" (653 : Nat) ({ cls := "SchemaWorkshopModel", name := "isAgain", desc := "(I)Z" } : Jvm.MethodName)) ∈ lw_all := lw_g (lw_at lw_m12 231 rfl) rfl
theorem q3169 : (Jvm.Cond.privateMethod ({ cls := "SchemaWorkshopModel", name := "isAgain", desc := "(I)Z" } : Jvm.MethodName)) ∈ lw_tbl := lw_at lw_m12 232 rfl
theorem q3170 : (Jvm.Cond.instanceMethod ({ cls := "SchemaWorkshopModel", name := "isAgain", desc := "(I)Z" } : Jvm.MethodName)) ∈ lw_all := lw_g (lw_at lw_m12 233 rfl) rfl
theorem q3171 : (Jvm.Cond.code ({ cls := "SchemaWorkshopModel", name := "isAgain", desc := "(I)Z" } : Jvm.MethodName) prog_15_method_80_code (4 : Nat) (Option.some Jvm.ClassFile.FieldType.boolean)) ∈ lw_all := lw_g (lw_at lw_m12 234 rfl) rfl
theorem q3172 : (Jvm.Cond.methodLink "SchemaWorkshopModel" (850 : Nat) ({ cls := "SchemaWorkshopModel", name := "checkCircles", desc := "()V" } : Jvm.MethodName)) ∈ lw_all := lw_g (lw_at lw_m12 235 rfl) rfl
theorem q3173 : (Jvm.Cond.privateMethod ({ cls := "SchemaWorkshopModel", name := "checkCircles", desc := "()V" } : Jvm.MethodName)) ∈ lw_tbl := lw_at lw_m12 236 rfl
theorem q3174 : (Jvm.Cond.instanceMethod ({ cls := "SchemaWorkshopModel", name := "checkCircles", desc := "()V" } : Jvm.MethodName)) ∈ lw_all := lw_g (lw_at lw_m12 237 rfl) rfl
theorem q3175 : (Jvm.Cond.code ({ cls := "SchemaWorkshopModel", name := "checkCircles", desc := "()V" } : Jvm.MethodName) prog_15_method_83_code (4 : Nat) (Option.none : Option Jvm.ClassFile.FieldType)) ∈ lw_all := lw_g (lw_at lw_m12 238 rfl) rfl
theorem q3176 : (Jvm.Cond.methodLink "SchemaWorkshopModel" (656 : Nat) ({ cls := "SchemaWorkshopModel", name := "goesOn", desc := "(I)I" } : Jvm.MethodName)) ∈ lw_all := lw_g (lw_at lw_m12 239 rfl) rfl
theorem q3177 : (Jvm.Cond.privateMethod ({ cls := "SchemaWorkshopModel", name := "goesOn", desc := "(I)I" } : Jvm.MethodName)) ∈ lw_tbl := lw_at lw_m13 0 rfl
theorem q3178 : (Jvm.Cond.instanceMethod ({ cls := "SchemaWorkshopModel", name := "goesOn", desc := "(I)I" } : Jvm.MethodName)) ∈ lw_all := lw_g (lw_at lw_m13 1 rfl) rfl
theorem q3179 : (Jvm.Cond.code ({ cls := "SchemaWorkshopModel", name := "goesOn", desc := "(I)I" } : Jvm.MethodName) prog_15_method_82_code (2 : Nat) (Option.some Jvm.ClassFile.FieldType.int)) ∈ lw_all := lw_g (lw_at lw_m13 2 rfl) rfl
theorem q3180 : (Jvm.Cond.methodLink "SchemaWorkshopModel" (853 : Nat) ({ cls := "SchemaWorkshopModel", name := "checkBounds", desc := "()V" } : Jvm.MethodName)) ∈ lw_all := lw_g (lw_at lw_m13 3 rfl) rfl
theorem q3181 : (Jvm.Cond.privateMethod ({ cls := "SchemaWorkshopModel", name := "checkBounds", desc := "()V" } : Jvm.MethodName)) ∈ lw_tbl := lw_at lw_m13 4 rfl
theorem q3182 : (Jvm.Cond.instanceMethod ({ cls := "SchemaWorkshopModel", name := "checkBounds", desc := "()V" } : Jvm.MethodName)) ∈ lw_all := lw_g (lw_at lw_m13 5 rfl) rfl
theorem q3183 : (Jvm.Cond.code ({ cls := "SchemaWorkshopModel", name := "checkBounds", desc := "()V" } : Jvm.MethodName) prog_15_method_88_code (6 : Nat) (Option.none : Option Jvm.ClassFile.FieldType)) ∈ lw_all := lw_g (lw_at lw_m13 6 rfl) rfl
theorem q3184 : (Jvm.Cond.methodLink "SchemaWorkshopModel" (662 : Nat) ({ cls := "SchemaWorkshopModel", name := "hasSizes", desc := "(I)Z" } : Jvm.MethodName)) ∈ lw_all := lw_g (lw_at lw_m13 7 rfl) rfl
theorem q3185 : (Jvm.Cond.static ({ cls := "SchemaWorkshopModel", name := "hasSizes", desc := "(I)Z" } : Jvm.MethodName)) ∈ lw_all := lw_g (lw_at lw_m13 8 rfl) rfl
theorem q3186 : (Jvm.Cond.code ({ cls := "SchemaWorkshopModel", name := "hasSizes", desc := "(I)Z" } : Jvm.MethodName) prog_15_method_87_code (1 : Nat) (Option.some Jvm.ClassFile.FieldType.boolean)) ∈ lw_all := lw_g (lw_at lw_m13 9 rfl) rfl
theorem q3187 : (Jvm.Cond.methodLink "SchemaWorkshopModel" (665 : Nat) ({ cls := "SchemaWorkshopModel", name := "boundOf", desc := "(IIZZ)I" } : Jvm.MethodName)) ∈ lw_all := lw_g (lw_at lw_m13 10 rfl) rfl
theorem q3188 : (Jvm.Cond.privateMethod ({ cls := "SchemaWorkshopModel", name := "boundOf", desc := "(IIZZ)I" } : Jvm.MethodName)) ∈ lw_tbl := lw_at lw_m13 11 rfl
theorem q3189 : (Jvm.Cond.instanceMethod ({ cls := "SchemaWorkshopModel", name := "boundOf", desc := "(IIZZ)I" } : Jvm.MethodName)) ∈ lw_all := lw_g (lw_at lw_m13 12 rfl) rfl
theorem q3190 : (Jvm.Cond.code ({ cls := "SchemaWorkshopModel", name := "boundOf", desc := "(IIZZ)I" } : Jvm.MethodName) prog_15_method_85_code (7 : Nat) (Option.some Jvm.ClassFile.FieldType.int)) ∈ lw_all := lw_g (lw_at lw_m13 13 rfl) rfl
theorem q3191 : (Jvm.Cond.methodLink "SchemaWorkshopModel" (659 : Nat) ({ cls := "SchemaWorkshopModel", name := "constantOf", desc := "(I)I" } : Jvm.MethodName)) ∈ lw_all := lw_g (lw_at lw_m13 14 rfl) rfl
theorem q3192 : (Jvm.Cond.privateMethod ({ cls := "SchemaWorkshopModel", name := "constantOf", desc := "(I)I" } : Jvm.MethodName)) ∈ lw_tbl := lw_at lw_m13 15 rfl
theorem q3193 : (Jvm.Cond.instanceMethod ({ cls := "SchemaWorkshopModel", name := "constantOf", desc := "(I)I" } : Jvm.MethodName)) ∈ lw_all := lw_g (lw_at lw_m13 16 rfl) rfl
theorem q3194 : (Jvm.Cond.code ({ cls := "SchemaWorkshopModel", name := "constantOf", desc := "(I)I" } : Jvm.MethodName) prog_15_method_84_code (6 : Nat) (Option.some Jvm.ClassFile.FieldType.int)) ∈ lw_all := lw_g (lw_at lw_m13 17 rfl) rfl
theorem q3195 : (Jvm.Cond.methodLink "SchemaWorkshopModel" (669 : Nat) ({ cls := "SchemaWorkshopModel", name := "isAbove", desc := "(II)Z" } : Jvm.MethodName)) ∈ lw_all := lw_g (lw_at lw_m13 18 rfl) rfl
theorem q3196 : (Jvm.Cond.privateMethod ({ cls := "SchemaWorkshopModel", name := "isAbove", desc := "(II)Z" } : Jvm.MethodName)) ∈ lw_tbl := lw_at lw_m13 19 rfl
theorem q3197 : (Jvm.Cond.instanceMethod ({ cls := "SchemaWorkshopModel", name := "isAbove", desc := "(II)Z" } : Jvm.MethodName)) ∈ lw_all := lw_g (lw_at lw_m13 20 rfl) rfl
theorem q3198 : (Jvm.Cond.code ({ cls := "SchemaWorkshopModel", name := "isAbove", desc := "(II)Z" } : Jvm.MethodName) prog_15_method_86_code (3 : Nat) (Option.some Jvm.ClassFile.FieldType.boolean)) ∈ lw_all := lw_g (lw_at lw_m13 21 rfl) rfl
theorem q3199 : (Jvm.Cond.methodLink "SchemaWorkshopModel" (856 : Nat) ({ cls := "SchemaWorkshopModel", name := "checkValues", desc := "()V" } : Jvm.MethodName)) ∈ lw_all := lw_g (lw_at lw_m13 22 rfl) rfl
theorem q3200 : (Jvm.Cond.privateMethod ({ cls := "SchemaWorkshopModel", name := "checkValues", desc := "()V" } : Jvm.MethodName)) ∈ lw_tbl := lw_at lw_m13 23 rfl
theorem q3201 : (Jvm.Cond.instanceMethod ({ cls := "SchemaWorkshopModel", name := "checkValues", desc := "()V" } : Jvm.MethodName)) ∈ lw_all := lw_g (lw_at lw_m13 24 rfl) rfl
theorem q3202 : (Jvm.Cond.code ({ cls := "SchemaWorkshopModel", name := "checkValues", desc := "()V" } : Jvm.MethodName) prog_15_method_125_code (5 : Nat) (Option.none : Option Jvm.ClassFile.FieldType)) ∈ lw_all := lw_g (lw_at lw_m13 25 rfl) rfl
theorem q3203 : (Jvm.Cond.methodLink "SchemaWorkshopModel" (807 : Nat) ({ cls := "SchemaWorkshopModel", name := "literal", desc := "(I)Z" } : Jvm.MethodName)) ∈ lw_all := lw_g (lw_at lw_m13 26 rfl) rfl
theorem q3204 : (Jvm.Cond.privateMethod ({ cls := "SchemaWorkshopModel", name := "literal", desc := "(I)Z" } : Jvm.MethodName)) ∈ lw_tbl := lw_at lw_m13 27 rfl
theorem q3205 : (Jvm.Cond.instanceMethod ({ cls := "SchemaWorkshopModel", name := "literal", desc := "(I)Z" } : Jvm.MethodName)) ∈ lw_all := lw_g (lw_at lw_m13 28 rfl) rfl
theorem q3206 : (Jvm.Cond.code ({ cls := "SchemaWorkshopModel", name := "literal", desc := "(I)Z" } : Jvm.MethodName) prog_15_method_119_code (9 : Nat) (Option.some Jvm.ClassFile.FieldType.boolean)) ∈ lw_all := lw_g (lw_at lw_m13 29 rfl) rfl
theorem q3207 : (Jvm.Cond.methodLink "SchemaWorkshopModel" (688 : Nat) ({ cls := "SchemaWorkshopModel", name := "say", desc := "(I)V" } : Jvm.MethodName)) ∈ lw_all := lw_g (lw_at lw_m13 30 rfl) rfl
theorem q3208 : (Jvm.Cond.privateMethod ({ cls := "SchemaWorkshopModel", name := "say", desc := "(I)V" } : Jvm.MethodName)) ∈ lw_tbl := lw_at lw_m13 31 rfl
theorem q3209 : (Jvm.Cond.instanceMethod ({ cls := "SchemaWorkshopModel", name := "say", desc := "(I)V" } : Jvm.MethodName)) ∈ lw_all := lw_g (lw_at lw_m13 32 rfl) rfl
theorem q3210 : (Jvm.Cond.code ({ cls := "SchemaWorkshopModel", name := "say", desc := "(I)V" } : Jvm.MethodName) prog_15_method_94_code (2 : Nat) (Option.none : Option Jvm.ClassFile.FieldType)) ∈ lw_all := lw_g (lw_at lw_m13 33 rfl) rfl
theorem q3211 : (Jvm.Cond.methodLink "SchemaWorkshopModel" (762 : Nat) ({ cls := "SchemaWorkshopModel", name := "sayNumber", desc := "(I)V" } : Jvm.MethodName)) ∈ lw_all := lw_g (lw_at lw_m13 34 rfl) rfl
theorem q3212 : (Jvm.Cond.privateMethod ({ cls := "SchemaWorkshopModel", name := "sayNumber", desc := "(I)V" } : Jvm.MethodName)) ∈ lw_tbl := lw_at lw_m13 35 rfl
theorem q3213 : (Jvm.Cond.instanceMethod ({ cls := "SchemaWorkshopModel", name := "sayNumber", desc := "(I)V" } : Jvm.MethodName)) ∈ lw_all := lw_g (lw_at lw_m13 36 rfl) rfl
theorem q3214 : (Jvm.Cond.code ({ cls := "SchemaWorkshopModel", name := "sayNumber", desc := "(I)V" } : Jvm.MethodName) prog_15_method_96_code (3 : Nat) (Option.none : Option Jvm.ClassFile.FieldType)) ∈ lw_all := lw_g (lw_at lw_m13 37 rfl) rfl
theorem q3215 : (Jvm.Cond.methodLink "SchemaWorkshopModel" (678 : Nat) ({ cls := "SchemaWorkshopModel", name := "holds", desc := "(IIZ)Z" } : Jvm.MethodName)) ∈ lw_all := lw_g (lw_at lw_m13 38 rfl) rfl
theorem q3216 : (Jvm.Cond.privateMethod ({ cls := "SchemaWorkshopModel", name := "holds", desc := "(IIZ)Z" } : Jvm.MethodName)) ∈ lw_tbl := lw_at lw_m13 39 rfl
theorem q3217 : (Jvm.Cond.instanceMethod ({ cls := "SchemaWorkshopModel", name := "holds", desc := "(IIZ)Z" } : Jvm.MethodName)) ∈ lw_all := lw_g (lw_at lw_m13 40 rfl) rfl
theorem q3218 : (Jvm.Cond.code ({ cls := "SchemaWorkshopModel", name := "holds", desc := "(IIZ)Z" } : Jvm.MethodName) prog_15_method_89_code (7 : Nat) (Option.some Jvm.ClassFile.FieldType.boolean)) ∈ lw_all := lw_g (lw_at lw_m13 41 rfl) rfl
theorem q3219 : (Jvm.Cond.methodLink "SchemaWorkshopModel" (672 : Nat) ({ cls := "SchemaWorkshopModel", name := "isIn", desc := "(II)Z" } : Jvm.MethodName)) ∈ lw_all := lw_g (lw_at lw_m13 42 rfl) rfl
theorem q3220 : (Jvm.Cond.privateMethod ({ cls := "SchemaWorkshopModel", name := "isIn", desc := "(II)Z" } : Jvm.MethodName)) ∈ lw_tbl := lw_at lw_m13 43 rfl
theorem q3221 : (Jvm.Cond.instanceMethod ({ cls := "SchemaWorkshopModel", name := "isIn", desc := "(II)Z" } : Jvm.MethodName)) ∈ lw_all := lw_g (lw_at lw_m13 44 rfl) rfl
theorem q3222 : (Jvm.Cond.code ({ cls := "SchemaWorkshopModel", name := "isIn", desc := "(II)Z" } : Jvm.MethodName) prog_15_method_90_code (7 : Nat) (Option.some Jvm.ClassFile.FieldType.boolean)) ∈ lw_all := lw_g (lw_at lw_m13 45 rfl) rfl
theorem q3223 : (Jvm.Cond.methodLink "SchemaWorkshopModel" (765 : Nat) ({ cls := "SchemaWorkshopModel", name := "bitsOfText", desc := "(I)V" } : Jvm.MethodName)) ∈ lw_all := lw_g (lw_at lw_m13 46 rfl) rfl
theorem q3224 : (Jvm.Cond.privateMethod ({ cls := "SchemaWorkshopModel", name := "bitsOfText", desc := "(I)V" } : Jvm.MethodName)) ∈ lw_tbl := lw_at lw_m13 47 rfl
theorem q3225 : (Jvm.Cond.instanceMethod ({ cls := "SchemaWorkshopModel", name := "bitsOfText", desc := "(I)V" } : Jvm.MethodName)) ∈ lw_all := lw_g (lw_at lw_m13 48 rfl) rfl
theorem q3226 : (Jvm.Cond.code ({ cls := "SchemaWorkshopModel", name := "bitsOfText", desc := "(I)V" } : Jvm.MethodName) prog_15_method_112_code (5 : Nat) (Option.none : Option Jvm.ClassFile.FieldType)) ∈ lw_all := lw_g (lw_at lw_m13 49 rfl) rfl
theorem q3227 : (Jvm.Cond.methodLink "SchemaWorkshopModel" (700 : Nat) ({ cls := "SchemaWorkshopModel", name := "sayBit", desc := "(I)V" } : Jvm.MethodName)) ∈ lw_all := lw_g (lw_at lw_m13 50 rfl) rfl
theorem q3228 : (Jvm.Cond.privateMethod ({ cls := "SchemaWorkshopModel", name := "sayBit", desc := "(I)V" } : Jvm.MethodName)) ∈ lw_tbl := lw_at lw_m13 51 rfl
theorem q3229 : (Jvm.Cond.instanceMethod ({ cls := "SchemaWorkshopModel", name := "sayBit", desc := "(I)V" } : Jvm.MethodName)) ∈ lw_all := lw_g (lw_at lw_m13 52 rfl) rfl
theorem q3230 : (Jvm.Cond.code ({ cls := "SchemaWorkshopModel", name := "sayBit", desc := "(I)V" } : Jvm.MethodName) prog_15_method_95_code (2 : Nat) (Option.none : Option Jvm.ClassFile.FieldType)) ∈ lw_all := lw_g (lw_at lw_m13 53 rfl) rfl
theorem q3231 : (Jvm.Cond.methodLink "SchemaWorkshopModel" (768 : Nat) ({ cls := "SchemaWorkshopModel", name := "bitsOfItems", desc := "(II)Z" } : Jvm.MethodName)) ∈ lw_all := lw_g (lw_at lw_m13 54 rfl) rfl
theorem q3232 : (Jvm.Cond.privateMethod ({ cls := "SchemaWorkshopModel", name := "bitsOfItems", desc := "(II)Z" } : Jvm.MethodName)) ∈ lw_tbl := lw_at lw_m13 55 rfl
theorem q3233 : (Jvm.Cond.instanceMethod ({ cls := "SchemaWorkshopModel", name := "bitsOfItems", desc := "(II)Z" } : Jvm.MethodName)) ∈ lw_all := lw_g (lw_at lw_m13 56 rfl) rfl
theorem q3234 : (Jvm.Cond.code ({ cls := "SchemaWorkshopModel", name := "bitsOfItems", desc := "(II)Z" } : Jvm.MethodName) prog_15_method_113_code (6 : Nat) (Option.some Jvm.ClassFile.FieldType.boolean)) ∈ lw_all := lw_g (lw_at lw_m13 57 rfl) rfl
theorem q3235 : (Jvm.Cond.methodLink "SchemaWorkshopModel" (771 : Nat) ({ cls := "SchemaWorkshopModel", name := "writeBits", desc := "(I)Z" } : Jvm.MethodName)) ∈ lw_all := lw_g (lw_at lw_m13 58 rfl) rfl
theorem q3236 : (Jvm.Cond.privateMethod ({ cls := "SchemaWorkshopModel", name := "writeBits", desc := "(I)Z" } : Jvm.MethodName)) ∈ lw_tbl := lw_at lw_m13 59 rfl
theorem q3237 : (Jvm.Cond.instanceMethod ({ cls := "SchemaWorkshopModel", name := "writeBits", desc := "(I)Z" } : Jvm.MethodName)) ∈ lw_all := lw_g (lw_at lw_m13 60 rfl) rfl
theorem q3238 : (Jvm.Cond.code ({ cls := "SchemaWorkshopModel", name := "writeBits", desc := "(I)Z" } : Jvm.MethodName) prog_15_method_99_code (7 : Nat) (Option.some Jvm.ClassFile.FieldType.boolean)) ∈ lw_all := lw_g (lw_at lw_m13 61 rfl) rfl
theorem q3239 : (Jvm.Cond.methodLink "SchemaWorkshopModel" (697 : Nat) ({ cls := "SchemaWorkshopModel", name := "leastSize", desc := "(II)I" } : Jvm.MethodName)) ∈ lw_all := lw_g (lw_at lw_m13 62 rfl) rfl
theorem q3240 : (Jvm.Cond.privateMethod ({ cls := "SchemaWorkshopModel", name := "leastSize", desc := "(II)I" } : Jvm.MethodName)) ∈ lw_tbl := lw_at lw_m13 63 rfl
theorem q3241 : (Jvm.Cond.instanceMethod ({ cls := "SchemaWorkshopModel", name := "leastSize", desc := "(II)I" } : Jvm.MethodName)) ∈ lw_all := lw_g (lw_at lw_m13 64 rfl) rfl
theorem q3242 : (Jvm.Cond.code ({ cls := "SchemaWorkshopModel", name := "leastSize", desc := "(II)I" } : Jvm.MethodName) prog_15_method_98_code (4 : Nat) (Option.some Jvm.ClassFile.FieldType.int)) ∈ lw_all := lw_g (lw_at lw_m13 65 rfl) rfl
theorem q3243 : (Jvm.Cond.methodLink "SchemaWorkshopModel" (691 : Nat) ({ cls := "SchemaWorkshopModel", name := "hasSizeLimits", desc := "(I)Z" } : Jvm.MethodName)) ∈ lw_all := lw_g (lw_at lw_m13 66 rfl) rfl
theorem q3244 : (Jvm.Cond.privateMethod ({ cls := "SchemaWorkshopModel", name := "hasSizeLimits", desc := "(I)Z" } : Jvm.MethodName)) ∈ lw_tbl := lw_at lw_m13 67 rfl
theorem q3245 : (Jvm.Cond.instanceMethod ({ cls := "SchemaWorkshopModel", name := "hasSizeLimits", desc := "(I)Z" } : Jvm.MethodName)) ∈ lw_all := lw_g (lw_at lw_m13 68 rfl) rfl
theorem q3246 : (Jvm.Cond.code ({ cls := "SchemaWorkshopModel", name := "hasSizeLimits", desc := "(I)Z" } : Jvm.MethodName) prog_15_method_93_code (5 : Nat) (Option.some Jvm.ClassFile.FieldType.boolean)) ∈ lw_all := lw_g (lw_at lw_m13 69 rfl) rfl
theorem q3247 : (Jvm.Cond.methodLink "SchemaWorkshopModel" (694 : Nat) ({ cls := "SchemaWorkshopModel", name := "holdsSize", desc := "(II)Z" } : Jvm.MethodName)) ∈ lw_all := lw_g (lw_at lw_m13 70 rfl) rfl
theorem q3248 : (Jvm.Cond.privateMethod ({ cls := "SchemaWorkshopModel", name := "holdsSize", desc := "(II)Z" } : Jvm.MethodName)) ∈ lw_tbl := lw_at lw_m13 71 rfl
theorem q3249 : (Jvm.Cond.instanceMethod ({ cls := "SchemaWorkshopModel", name := "holdsSize", desc := "(II)Z" } : Jvm.MethodName)) ∈ lw_all := lw_g (lw_at lw_m13 72 rfl) rfl
theorem q3250 : (Jvm.Cond.code ({ cls := "SchemaWorkshopModel", name := "holdsSize", desc := "(II)Z" } : Jvm.MethodName) prog_15_method_91_code (6 : Nat) (Option.some Jvm.ClassFile.FieldType.boolean)) ∈ lw_all := lw_g (lw_at lw_m13 73 rfl) rfl
theorem q3251 : (Jvm.Cond.methodLink "SchemaWorkshopModel" (675 : Nat) ({ cls := "SchemaWorkshopModel", name := "hasLimits", desc := "(I)Z" } : Jvm.MethodName)) ∈ lw_all := lw_g (lw_at lw_m13 74 rfl) rfl
theorem q3252 : (Jvm.Cond.privateMethod ({ cls := "SchemaWorkshopModel", name := "hasLimits", desc := "(I)Z" } : Jvm.MethodName)) ∈ lw_tbl := lw_at lw_m13 75 rfl
theorem q3253 : (Jvm.Cond.instanceMethod ({ cls := "SchemaWorkshopModel", name := "hasLimits", desc := "(I)Z" } : Jvm.MethodName)) ∈ lw_all := lw_g (lw_at lw_m13 76 rfl) rfl
theorem q3254 : (Jvm.Cond.code ({ cls := "SchemaWorkshopModel", name := "hasLimits", desc := "(I)Z" } : Jvm.MethodName) prog_15_method_92_code (4 : Nat) (Option.some Jvm.ClassFile.FieldType.boolean)) ∈ lw_all := lw_g (lw_at lw_m13 77 rfl) rfl
theorem q3255 : (Jvm.Cond.methodLink "SchemaWorkshopModel" (774 : Nat) ({ cls := "SchemaWorkshopModel", name := "isFew", desc := "(I)Z" } : Jvm.MethodName)) ∈ lw_all := lw_g (lw_at lw_m13 78 rfl) rfl
theorem q3256 : (Jvm.Cond.privateMethod ({ cls := "SchemaWorkshopModel", name := "isFew", desc := "(I)Z" } : Jvm.MethodName)) ∈ lw_tbl := lw_at lw_m13 79 rfl
theorem q3257 : (Jvm.Cond.instanceMethod ({ cls := "SchemaWorkshopModel", name := "isFew", desc := "(I)Z" } : Jvm.MethodName)) ∈ lw_all := lw_g (lw_at lw_m13 80 rfl) rfl
theorem q3258 : (Jvm.Cond.code ({ cls := "SchemaWorkshopModel", name := "isFew", desc := "(I)Z" } : Jvm.MethodName) prog_15_method_121_code (2 : Nat) (Option.some Jvm.ClassFile.FieldType.boolean)) ∈ lw_all := lw_g (lw_at lw_m13 81 rfl) rfl
theorem q3259 : (Jvm.Cond.methodLink "SchemaWorkshopModel" (777 : Nat) ({ cls := "SchemaWorkshopModel", name := "objectOf", desc := "(I)Z" } : Jvm.MethodName)) ∈ lw_all := lw_g (lw_at lw_m13 82 rfl) rfl
theorem q3260 : (Jvm.Cond.privateMethod ({ cls := "SchemaWorkshopModel", name := "objectOf", desc := "(I)Z" } : Jvm.MethodName)) ∈ lw_tbl := lw_at lw_m13 83 rfl
theorem q3261 : (Jvm.Cond.instanceMethod ({ cls := "SchemaWorkshopModel", name := "objectOf", desc := "(I)Z" } : Jvm.MethodName)) ∈ lw_all := lw_g (lw_at lw_m13 84 rfl) rfl
theorem q3262 : (Jvm.Cond.code ({ cls := "SchemaWorkshopModel", name := "objectOf", desc := "(I)Z" } : Jvm.MethodName) prog_15_method_117_code (6 : Nat) (Option.some Jvm.ClassFile.FieldType.boolean)) ∈ lw_all := lw_g (lw_at lw_m13 85 rfl) rfl
theorem q3263 : (Jvm.Cond.methodLink "SchemaWorkshopModel" (756 : Nat) ({ cls := "SchemaWorkshopModel", name := "arcOf", desc := "(I)I" } : Jvm.MethodName)) ∈ lw_all := lw_g (lw_at lw_m13 86 rfl) rfl
theorem q3264 : (Jvm.Cond.privateMethod ({ cls := "SchemaWorkshopModel", name := "arcOf", desc := "(I)I" } : Jvm.MethodName)) ∈ lw_tbl := lw_at lw_m13 87 rfl
theorem q3265 : (Jvm.Cond.instanceMethod ({ cls := "SchemaWorkshopModel", name := "arcOf", desc := "(I)I" } : Jvm.MethodName)) ∈ lw_all := lw_g (lw_at lw_m13 88 rfl) rfl
theorem q3266 : (Jvm.Cond.code ({ cls := "SchemaWorkshopModel", name := "arcOf", desc := "(I)I" } : Jvm.MethodName) prog_15_method_115_code (5 : Nat) (Option.some Jvm.ClassFile.FieldType.int)) ∈ lw_all := lw_g (lw_at lw_m13 89 rfl) rfl
theorem q3267 : (Jvm.Cond.methodLink "SchemaWorkshopModel" (759 : Nat) ({ cls := "SchemaWorkshopModel", name := "saySevens", desc := "(II)V" } : Jvm.MethodName)) ∈ lw_all := lw_g (lw_at lw_m13 90 rfl) rfl
theorem q3268 : (Jvm.Cond.privateMethod ({ cls := "SchemaWorkshopModel", name := "saySevens", desc := "(II)V" } : Jvm.MethodName)) ∈ lw_tbl := lw_at lw_m13 91 rfl
theorem q3269 : (Jvm.Cond.instanceMethod ({ cls := "SchemaWorkshopModel", name := "saySevens", desc := "(II)V" } : Jvm.MethodName)) ∈ lw_all := lw_g (lw_at lw_m13 92 rfl) rfl
theorem q3270 : (Jvm.Cond.code ({ cls := "SchemaWorkshopModel", name := "saySevens", desc := "(II)V" } : Jvm.MethodName) prog_15_method_116_code (9 : Nat) (Option.none : Option Jvm.ClassFile.FieldType)) ∈ lw_all := lw_g (lw_at lw_m13 93 rfl) rfl
theorem q3271 : (Jvm.Cond.methodLink "SchemaWorkshopModel" (780 : Nat) ({ cls := "SchemaWorkshopModel", name := "characters", desc := "(III)Z" } : Jvm.MethodName)) ∈ lw_all := lw_g (lw_at lw_m13 94 rfl) rfl
theorem q3272 : (Jvm.Cond.privateMethod ({ cls := "SchemaWorkshopModel", name := "characters", desc := "(III)Z" } : Jvm.MethodName)) ∈ lw_tbl := lw_at lw_m13 95 rfl
theorem q3273 : (Jvm.Cond.instanceMethod ({ cls := "SchemaWorkshopModel", name := "characters", desc := "(III)Z" } : Jvm.MethodName)) ∈ lw_all := lw_g (lw_at lw_m13 96 rfl) rfl
theorem q3274 : (Jvm.Cond.code ({ cls := "SchemaWorkshopModel", name := "characters", desc := "(III)Z" } : Jvm.MethodName) prog_15_method_120_code (6 : Nat) (Option.some Jvm.ClassFile.FieldType.boolean)) ∈ lw_all := lw_g (lw_at lw_m13 97 rfl) rfl
theorem q3275 : (Jvm.Cond.methodLink "SchemaWorkshopModel" (786 : Nat) ({ cls := "SchemaWorkshopModel", name := "textOf", desc := "(I)V" } : Jvm.MethodName)) ∈ lw_all := lw_g (lw_at lw_m13 98 rfl) rfl
theorem q3276 : (Jvm.Cond.privateMethod ({ cls := "SchemaWorkshopModel", name := "textOf", desc := "(I)V" } : Jvm.MethodName)) ∈ lw_tbl := lw_at lw_m13 99 rfl
theorem q3277 : (Jvm.Cond.instanceMethod ({ cls := "SchemaWorkshopModel", name := "textOf", desc := "(I)V" } : Jvm.MethodName)) ∈ lw_all := lw_g (lw_at lw_m13 100 rfl) rfl
theorem q3278 : (Jvm.Cond.code ({ cls := "SchemaWorkshopModel", name := "textOf", desc := "(I)V" } : Jvm.MethodName) prog_15_method_114_code (3 : Nat) (Option.none : Option Jvm.ClassFile.FieldType)) ∈ lw_all := lw_g (lw_at lw_m13 101 rfl) rfl
theorem q3279 : (Jvm.Cond.methodLink "SchemaWorkshopModel" (789 : Nat) ({ cls := "SchemaWorkshopModel", name := "utcTime", desc := "()I" } : Jvm.MethodName)) ∈ lw_all := lw_g (lw_at lw_m13 102 rfl) rfl
theorem q3280 : (Jvm.Cond.privateMethod ({ cls := "SchemaWorkshopModel", name := "utcTime", desc := "()I" } : Jvm.MethodName)) ∈ lw_tbl := lw_at lw_m13 103 rfl
theorem q3281 : (Jvm.Cond.instanceMethod ({ cls := "SchemaWorkshopModel", name := "utcTime", desc := "()I" } : Jvm.MethodName)) ∈ lw_all := lw_g (lw_at lw_m13 104 rfl) rfl
theorem q3282 : (Jvm.Cond.code ({ cls := "SchemaWorkshopModel", name := "utcTime", desc := "()I" } : Jvm.MethodName) prog_15_method_108_code (3 : Nat) (Option.some Jvm.ClassFile.FieldType.int)) ∈ lw_all := lw_g (lw_at lw_m13 105 rfl) rfl
theorem q3283 : (Jvm.Cond.methodLink "SchemaWorkshopModel" (728 : Nat) ({ cls := "SchemaWorkshopModel", name := "digitsAt", desc := "(I)I" } : Jvm.MethodName)) ∈ lw_all := lw_g (lw_at lw_m13 106 rfl) rfl
theorem q3284 : (Jvm.Cond.privateMethod ({ cls := "SchemaWorkshopModel", name := "digitsAt", desc := "(I)I" } : Jvm.MethodName)) ∈ lw_tbl := lw_at lw_m13 107 rfl
theorem q3285 : (Jvm.Cond.instanceMethod ({ cls := "SchemaWorkshopModel", name := "digitsAt", desc := "(I)I" } : Jvm.MethodName)) ∈ lw_all := lw_g (lw_at lw_m13 108 rfl) rfl
theorem q3286 : (Jvm.Cond.code ({ cls := "SchemaWorkshopModel", name := "digitsAt", desc := "(I)I" } : Jvm.MethodName) prog_15_method_101_code (4 : Nat) (Option.some Jvm.ClassFile.FieldType.int)) ∈ lw_all := lw_g (lw_at lw_m13 109 rfl) rfl
theorem q3287 : (Jvm.Cond.methodLink "SchemaWorkshopModel" (731 : Nat) ({ cls := "SchemaWorkshopModel", name := "isNextDigit", desc := "()Z" } : Jvm.MethodName)) ∈ lw_all := lw_g (lw_at lw_m13 110 rfl) rfl
theorem q3288 : (Jvm.Cond.privateMethod ({ cls := "SchemaWorkshopModel", name := "isNextDigit", desc := "()Z" } : Jvm.MethodName)) ∈ lw_tbl := lw_at lw_m13 111 rfl
theorem q3289 : (Jvm.Cond.instanceMethod ({ cls := "SchemaWorkshopModel", name := "isNextDigit", desc := "()Z" } : Jvm.MethodName)) ∈ lw_all := lw_g (lw_at lw_m13 112 rfl) rfl
theorem q3290 : (Jvm.Cond.code ({ cls := "SchemaWorkshopModel", name := "isNextDigit", desc := "()Z" } : Jvm.MethodName) prog_15_method_102_code (1 : Nat) (Option.some Jvm.ClassFile.FieldType.boolean)) ∈ lw_all := lw_g (lw_at lw_m13 113 rfl) rfl
theorem q3291 : (Jvm.Cond.constant "SchemaWorkshopModel" (727 : Nat) (100000 : Int32)) ∈ lw_all := lw_g (lw_at lw_m13 114 rfl) rfl
theorem q3292 : (Jvm.Cond.methodLink "SchemaWorkshopModel" (735 : Nat) ({ cls := "SchemaWorkshopModel", name := "zone", desc := "(Z)I" } : Jvm.MethodName)) ∈ lw_all := lw_g (lw_at lw_m13 115 rfl) rfl
theorem q3293 : (Jvm.Cond.privateMethod ({ cls := "SchemaWorkshopModel", name := "zone", desc := "(Z)I" } : Jvm.MethodName)) ∈ lw_tbl := lw_at lw_m13 116 rfl
theorem q3294 : (Jvm.Cond.instanceMethod ({ cls := "SchemaWorkshopModel", name := "zone", desc := "(Z)I" } : Jvm.MethodName)) ∈ lw_all := lw_g (lw_at lw_m13 117 rfl) rfl
theorem q3295 : (Jvm.Cond.code ({ cls := "SchemaWorkshopModel", name := "zone", desc := "(Z)I" } : Jvm.MethodName) prog_15_method_106_code (5 : Nat) (Option.some Jvm.ClassFile.FieldType.int)) ∈ lw_all := lw_g (lw_at lw_m13 118 rfl) rfl
theorem q3296 : (Jvm.Cond.methodLink "SchemaWorkshopModel" (738 : Nat) ({ cls := "SchemaWorkshopModel", name := "isDay", desc := "()Z" } : Jvm.MethodName)) ∈ lw_all := lw_g (lw_at lw_m13 119 rfl) rfl
theorem q3297 : (Jvm.Cond.privateMethod ({ cls := "SchemaWorkshopModel", name := "isDay", desc := "()Z" } : Jvm.MethodName)) ∈ lw_tbl := lw_at lw_m13 120 rfl
theorem q3298 : (Jvm.Cond.instanceMethod ({ cls := "SchemaWorkshopModel", name := "isDay", desc := "()Z" } : Jvm.MethodName)) ∈ lw_all := lw_g (lw_at lw_m13 121 rfl) rfl
theorem q3299 : (Jvm.Cond.code ({ cls := "SchemaWorkshopModel", name := "isDay", desc := "()Z" } : Jvm.MethodName) prog_15_method_104_code (1 : Nat) (Option.some Jvm.ClassFile.FieldType.boolean)) ∈ lw_all := lw_g (lw_at lw_m13 122 rfl) rfl
theorem q3300 : (Jvm.Cond.methodLink "SchemaWorkshopModel" (715 : Nat) ({ cls := "SchemaWorkshopModel", name := "daysOf", desc := "(II)I" } : Jvm.MethodName)) ∈ lw_all := lw_g (lw_at lw_m13 123 rfl) rfl
theorem q3301 : (Jvm.Cond.static ({ cls := "SchemaWorkshopModel", name := "daysOf", desc := "(II)I" } : Jvm.MethodName)) ∈ lw_all := lw_g (lw_at lw_m13 124 rfl) rfl
theorem q3302 : (Jvm.Cond.code ({ cls := "SchemaWorkshopModel", name := "daysOf", desc := "(II)I" } : Jvm.MethodName) prog_15_method_103_code (3 : Nat) (Option.some Jvm.ClassFile.FieldType.int)) ∈ lw_all := lw_g (lw_at lw_m13 125 rfl) rfl
theorem q3303 : (Jvm.Cond.methodLink "SchemaWorkshopModel" (741 : Nat) ({ cls := "SchemaWorkshopModel", name := "move", desc := "(I)V" } : Jvm.MethodName)) ∈ lw_all := lw_g (lw_at lw_m13 126 rfl) rfl
theorem q3304 : (Jvm.Cond.privateMethod ({ cls := "SchemaWorkshopModel", name := "move", desc := "(I)V" } : Jvm.MethodName)) ∈ lw_tbl := lw_at lw_m13 127 rfl
theorem q3305 : (Jvm.Cond.instanceMethod ({ cls := "SchemaWorkshopModel", name := "move", desc := "(I)V" } : Jvm.MethodName)) ∈ lw_all := lw_g (lw_at lw_m13 128 rfl) rfl
theorem q3306 : (Jvm.Cond.code ({ cls := "SchemaWorkshopModel", name := "move", desc := "(I)V" } : Jvm.MethodName) prog_15_method_105_code (4 : Nat) (Option.none : Option Jvm.ClassFile.FieldType)) ∈ lw_all := lw_g (lw_at lw_m13 129 rfl) rfl
theorem q3307 : (Jvm.Cond.methodLink "SchemaWorkshopModel" (744 : Nat) ({ cls := "SchemaWorkshopModel", name := "sayDigits", desc := "(II)V" } : Jvm.MethodName)) ∈ lw_all := lw_g (lw_at lw_m13 130 rfl) rfl
theorem q3308 : (Jvm.Cond.privateMethod ({ cls := "SchemaWorkshopModel", name := "sayDigits", desc := "(II)V" } : Jvm.MethodName)) ∈ lw_tbl := lw_at lw_m13 131 rfl
theorem q3309 : (Jvm.Cond.instanceMethod ({ cls := "SchemaWorkshopModel", name := "sayDigits", desc := "(II)V" } : Jvm.MethodName)) ∈ lw_all := lw_g (lw_at lw_m13 132 rfl) rfl
theorem q3310 : (Jvm.Cond.code ({ cls := "SchemaWorkshopModel", name := "sayDigits", desc := "(II)V" } : Jvm.MethodName) prog_15_method_107_code (5 : Nat) (Option.none : Option Jvm.ClassFile.FieldType)) ∈ lw_all := lw_g (lw_at lw_m13 133 rfl) rfl
theorem q3311 : (Jvm.Cond.methodLink "SchemaWorkshopModel" (747 : Nat) ({ cls := "SchemaWorkshopModel", name := "sayRest", desc := "()V" } : Jvm.MethodName)) ∈ lw_all := lw_g (lw_at lw_m13 134 rfl) rfl
theorem q3312 : (Jvm.Cond.privateMethod ({ cls := "SchemaWorkshopModel", name := "sayRest", desc := "()V" } : Jvm.MethodName)) ∈ lw_tbl := lw_at lw_m13 135 rfl
theorem q3313 : (Jvm.Cond.instanceMethod ({ cls := "SchemaWorkshopModel", name := "sayRest", desc := "()V" } : Jvm.MethodName)) ∈ lw_all := lw_g (lw_at lw_m13 136 rfl) rfl
theorem q3314 : (Jvm.Cond.code ({ cls := "SchemaWorkshopModel", name := "sayRest", desc := "()V" } : Jvm.MethodName) prog_15_method_109_code (1 : Nat) (Option.none : Option Jvm.ClassFile.FieldType)) ∈ lw_all := lw_g (lw_at lw_m13 137 rfl) rfl
theorem q3315 : (Jvm.Cond.methodLink "SchemaWorkshopModel" (792 : Nat) ({ cls := "SchemaWorkshopModel", name := "generalTime", desc := "()I" } : Jvm.MethodName)) ∈ lw_all := lw_g (lw_at lw_m13 138 rfl) rfl
theorem q3316 : (Jvm.Cond.privateMethod ({ cls := "SchemaWorkshopModel", name := "generalTime", desc := "()I" } : Jvm.MethodName)) ∈ lw_tbl := lw_at lw_m13 139 rfl
theorem q3317 : (Jvm.Cond.instanceMethod ({ cls := "SchemaWorkshopModel", name := "generalTime", desc := "()I" } : Jvm.MethodName)) ∈ lw_all := lw_g (lw_at lw_m13 140 rfl) rfl
theorem q3318 : (Jvm.Cond.code ({ cls := "SchemaWorkshopModel", name := "generalTime", desc := "()I" } : Jvm.MethodName) prog_15_method_111_code (6 : Nat) (Option.some Jvm.ClassFile.FieldType.int)) ∈ lw_all := lw_g (lw_at lw_m13 141 rfl) rfl
theorem q3319 : (Jvm.Cond.methodLink "SchemaWorkshopModel" (753 : Nat) ({ cls := "SchemaWorkshopModel", name := "partTimes", desc := "(I)I" } : Jvm.MethodName)) ∈ lw_all := lw_g (lw_at lw_m13 142 rfl) rfl
theorem q3320 : (Jvm.Cond.privateMethod ({ cls := "SchemaWorkshopModel", name := "partTimes", desc := "(I)I" } : Jvm.MethodName)) ∈ lw_tbl := lw_at lw_m13 143 rfl
theorem q3321 : (Jvm.Cond.instanceMethod ({ cls := "SchemaWorkshopModel", name := "partTimes", desc := "(I)I" } : Jvm.MethodName)) ∈ lw_all := lw_g (lw_at lw_m13 144 rfl) rfl
theorem q3322 : (Jvm.Cond.code ({ cls := "SchemaWorkshopModel", name := "partTimes", desc := "(I)I" } : Jvm.MethodName) prog_15_method_110_code (5 : Nat) (Option.some Jvm.ClassFile.FieldType.int)) ∈ lw_all := lw_g (lw_at lw_m13 145 rfl) rfl
theorem q3323 : (Jvm.Cond.methodLink "SchemaWorkshopModel" (795 : Nat) ({ cls := "SchemaWorkshopModel", name := "isPrintable", desc := "(I)Z" } : Jvm.MethodName)) ∈ lw_all := lw_g (lw_at lw_m13 146 rfl) rfl
theorem q3324 : (Jvm.Cond.static ({ cls := "SchemaWorkshopModel", name := "isPrintable", desc := "(I)Z" } : Jvm.MethodName)) ∈ lw_all := lw_g (lw_at lw_m13 147 rfl) rfl
theorem q3325 : (Jvm.Cond.code ({ cls := "SchemaWorkshopModel", name := "isPrintable", desc := "(I)Z" } : Jvm.MethodName) prog_15_method_100_code (1 : Nat) (Option.some Jvm.ClassFile.FieldType.boolean)) ∈ lw_all := lw_g (lw_at lw_m13 148 rfl) rfl
theorem q3326 : (Jvm.Cond.methodLink "SchemaWorkshopModel" (783 : Nat) ({ cls := "SchemaWorkshopModel", name := "allMayMiss", desc := "(I)Z" } : Jvm.MethodName)) ∈ lw_all := lw_g (lw_at lw_m13 149 rfl) rfl
theorem q3327 : (Jvm.Cond.privateMethod ({ cls := "SchemaWorkshopModel", name := "allMayMiss", desc := "(I)Z" } : Jvm.MethodName)) ∈ lw_tbl := lw_at lw_m13 150 rfl
theorem q3328 : (Jvm.Cond.instanceMethod ({ cls := "SchemaWorkshopModel", name := "allMayMiss", desc := "(I)Z" } : Jvm.MethodName)) ∈ lw_all := lw_g (lw_at lw_m13 151 rfl) rfl
theorem q3329 : (Jvm.Cond.code ({ cls := "SchemaWorkshopModel", name := "allMayMiss", desc := "(I)Z" } : Jvm.MethodName) prog_15_method_118_code (4 : Nat) (Option.some Jvm.ClassFile.FieldType.boolean)) ∈ lw_all := lw_g (lw_at lw_m13 152 rfl) rfl
theorem q3330 : (Jvm.Cond.methodLink "SchemaWorkshopModel" (810 : Nat) ({ cls := "SchemaWorkshopModel", name := "keepValue", desc := "(IZI)V" } : Jvm.MethodName)) ∈ lw_all := lw_g (lw_at lw_m13 153 rfl) rfl
theorem q3331 : (Jvm.Cond.privateMethod ({ cls := "SchemaWorkshopModel", name := "keepValue", desc := "(IZI)V" } : Jvm.MethodName)) ∈ lw_tbl := lw_at lw_m13 154 rfl
theorem q3332 : (Jvm.Cond.instanceMethod ({ cls := "SchemaWorkshopModel", name := "keepValue", desc := "(IZI)V" } : Jvm.MethodName)) ∈ lw_all := lw_g (lw_at lw_m13 155 rfl) rfl
theorem q3333 : (Jvm.Cond.code ({ cls := "SchemaWorkshopModel", name := "keepValue", desc := "(IZI)V" } : Jvm.MethodName) prog_15_method_124_code (5 : Nat) (Option.none : Option Jvm.ClassFile.FieldType)) ∈ lw_all := lw_g (lw_at lw_m13 156 rfl) rfl
theorem q3334 : (Jvm.Cond.methodLink "SchemaWorkshopModel" (801 : Nat) ({ cls := "SchemaWorkshopModel", name := "isWritten", desc := "(I)Z" } : Jvm.MethodName)) ∈ lw_all := lw_g (lw_at lw_m13 157 rfl) rfl
theorem q3335 : (Jvm.Cond.privateMethod ({ cls := "SchemaWorkshopModel", name := "isWritten", desc := "(I)Z" } : Jvm.MethodName)) ∈ lw_tbl := lw_at lw_m13 158 rfl
theorem q3336 : (Jvm.Cond.instanceMethod ({ cls := "SchemaWorkshopModel", name := "isWritten", desc := "(I)Z" } : Jvm.MethodName)) ∈ lw_all := lw_g (lw_at lw_m13 159 rfl) rfl
theorem q3337 : (Jvm.Cond.code ({ cls := "SchemaWorkshopModel", name := "isWritten", desc := "(I)Z" } : Jvm.MethodName) prog_15_method_123_code (4 : Nat) (Option.some Jvm.ClassFile.FieldType.boolean)) ∈ lw_all := lw_g (lw_at lw_m13 160 rfl) rfl
theorem q3338 : (Jvm.Cond.methodLink "SchemaWorkshopModel" (814 : Nat) ({ cls := "SchemaWorkshopModel", name := "derived", desc := "(II)Z" } : Jvm.MethodName)) ∈ lw_all := lw_g (lw_at lw_m13 161 rfl) rfl
theorem q3339 : (Jvm.Cond.privateMethod ({ cls := "SchemaWorkshopModel", name := "derived", desc := "(II)Z" } : Jvm.MethodName)) ∈ lw_tbl := lw_at lw_m13 162 rfl
theorem q3340 : (Jvm.Cond.instanceMethod ({ cls := "SchemaWorkshopModel", name := "derived", desc := "(II)Z" } : Jvm.MethodName)) ∈ lw_all := lw_g (lw_at lw_m13 163 rfl) rfl
theorem q3341 : (Jvm.Cond.code ({ cls := "SchemaWorkshopModel", name := "derived", desc := "(II)Z" } : Jvm.MethodName) prog_15_method_122_code (10 : Nat) (Option.some Jvm.ClassFile.FieldType.boolean)) ∈ lw_all := lw_g (lw_at lw_m13 164 rfl) rfl
theorem q3342 : (Jvm.Cond.methodLink "SchemaWorkshopModel" (798 : Nat) ({ cls := "SchemaWorkshopModel", name := "pieceNumber", desc := "()I" } : Jvm.MethodName)) ∈ lw_all := lw_g (lw_at lw_m13 165 rfl) rfl
theorem q3343 : (Jvm.Cond.privateMethod ({ cls := "SchemaWorkshopModel", name := "pieceNumber", desc := "()I" } : Jvm.MethodName)) ∈ lw_tbl := lw_at lw_m13 166 rfl
theorem q3344 : (Jvm.Cond.instanceMethod ({ cls := "SchemaWorkshopModel", name := "pieceNumber", desc := "()I" } : Jvm.MethodName)) ∈ lw_all := lw_g (lw_at lw_m13 167 rfl) rfl
theorem q3345 : (Jvm.Cond.code ({ cls := "SchemaWorkshopModel", name := "pieceNumber", desc := "()I" } : Jvm.MethodName) prog_15_method_97_code (3 : Nat) (Option.some Jvm.ClassFile.FieldType.int)) ∈ lw_all := lw_g (lw_at lw_m13 168 rfl) rfl
theorem q3347 : (Jvm.Cond.instanceMethod ({ cls := "SchemaWorkshopModel", name := "fault", desc := "(I)I" } : Jvm.MethodName)) ∈ lw_all := lw_g (lw_at lw_m13 170 rfl) rfl
theorem q3348 : (Jvm.Cond.selects "SchemaWorkshopModel" ({ cls := "SchemaWorkshopModel", name := "fault", desc := "(I)I" } : Jvm.MethodName) ({ cls := "SchemaWorkshopModel", name := "fault", desc := "(I)I" } : Jvm.MethodName)) ∈ lw_all := lw_g (lw_at lw_m13 171 rfl) rfl
theorem q3349 : (Jvm.Cond.code ({ cls := "SchemaWorkshopModel", name := "fault", desc := "(I)I" } : Jvm.MethodName) prog_15_method_127_code (2 : Nat) (Option.some Jvm.ClassFile.FieldType.int)) ∈ lw_all := lw_g (lw_at lw_m13 172 rfl) rfl
theorem q3351 : (Jvm.Cond.instanceMethod ({ cls := "SchemaWorkshopModel", name := "type", desc := "(II)I" } : Jvm.MethodName)) ∈ lw_all := lw_g (lw_at lw_m13 174 rfl) rfl
theorem q3352 : (Jvm.Cond.selects "SchemaWorkshopModel" ({ cls := "SchemaWorkshopModel", name := "type", desc := "(II)I" } : Jvm.MethodName) ({ cls := "SchemaWorkshopModel", name := "type", desc := "(II)I" } : Jvm.MethodName)) ∈ lw_all := lw_g (lw_at lw_m13 175 rfl) rfl
theorem q3353 : (Jvm.Cond.code ({ cls := "SchemaWorkshopModel", name := "type", desc := "(II)I" } : Jvm.MethodName) prog_15_method_129_code (6 : Nat) (Option.some Jvm.ClassFile.FieldType.int)) ∈ lw_all := lw_g (lw_at lw_m13 176 rfl) rfl
theorem q3354 : (Jvm.Cond.methodLink "SchemaWorkshopModel" (859 : Nat) ({ cls := "SchemaWorkshopModel", name := "hasType", desc := "(I)Z" } : Jvm.MethodName)) ∈ lw_all := lw_g (lw_at lw_m13 177 rfl) rfl
theorem q3355 : (Jvm.Cond.privateMethod ({ cls := "SchemaWorkshopModel", name := "hasType", desc := "(I)Z" } : Jvm.MethodName)) ∈ lw_tbl := lw_at lw_m13 178 rfl
theorem q3356 : (Jvm.Cond.instanceMethod ({ cls := "SchemaWorkshopModel", name := "hasType", desc := "(I)Z" } : Jvm.MethodName)) ∈ lw_all := lw_g (lw_at lw_m13 179 rfl) rfl
theorem q3357 : (Jvm.Cond.code ({ cls := "SchemaWorkshopModel", name := "hasType", desc := "(I)Z" } : Jvm.MethodName) prog_15_method_128_code (2 : Nat) (Option.some Jvm.ClassFile.FieldType.boolean)) ∈ lw_all := lw_g (lw_at lw_m13 180 rfl) rfl
theorem q3359 : (Jvm.Cond.instanceMethod ({ cls := "SchemaWorkshopModel", name := "name", desc := "(II)I" } : Jvm.MethodName)) ∈ lw_all := lw_g (lw_at lw_m13 182 rfl) rfl
theorem q3360 : (Jvm.Cond.selects "SchemaWorkshopModel" ({ cls := "SchemaWorkshopModel", name := "name", desc := "(II)I" } : Jvm.MethodName) ({ cls := "SchemaWorkshopModel", name := "name", desc := "(II)I" } : Jvm.MethodName)) ∈ lw_all := lw_g (lw_at lw_m13 183 rfl) rfl
theorem q3361 : (Jvm.Cond.code ({ cls := "SchemaWorkshopModel", name := "name", desc := "(II)I" } : Jvm.MethodName) prog_15_method_130_code (4 : Nat) (Option.some Jvm.ClassFile.FieldType.int)) ∈ lw_all := lw_g (lw_at lw_m13 184 rfl) rfl
theorem q3363 : (Jvm.Cond.instanceMethod ({ cls := "SchemaWorkshopModel", name := "defaultSize", desc := "(II)I" } : Jvm.MethodName)) ∈ lw_all := lw_g (lw_at lw_m13 186 rfl) rfl
theorem q3364 : (Jvm.Cond.selects "SchemaWorkshopModel" ({ cls := "SchemaWorkshopModel", name := "defaultSize", desc := "(II)I" } : Jvm.MethodName) ({ cls := "SchemaWorkshopModel", name := "defaultSize", desc := "(II)I" } : Jvm.MethodName)) ∈ lw_all := lw_g (lw_at lw_m13 187 rfl) rfl
theorem q3365 : (Jvm.Cond.code ({ cls := "SchemaWorkshopModel", name := "defaultSize", desc := "(II)I" } : Jvm.MethodName) prog_15_method_131_code (6 : Nat) (Option.some Jvm.ClassFile.FieldType.int)) ∈ lw_all := lw_g (lw_at lw_m13 188 rfl) rfl
theorem q3367 : (Jvm.Cond.instanceMethod ({ cls := "SchemaWorkshopModel", name := "limit", desc := "(I)I" } : Jvm.MethodName)) ∈ lw_all := lw_g (lw_at lw_m13 190 rfl) rfl
theorem q3368 : (Jvm.Cond.selects "SchemaWorkshopModel" ({ cls := "SchemaWorkshopModel", name := "limit", desc := "(I)I" } : Jvm.MethodName) ({ cls := "SchemaWorkshopModel", name := "limit", desc := "(I)I" } : Jvm.MethodName)) ∈ lw_all := lw_g (lw_at lw_m13 191 rfl) rfl
theorem q3369 : (Jvm.Cond.code ({ cls := "SchemaWorkshopModel", name := "limit", desc := "(I)I" } : Jvm.MethodName) prog_15_method_132_code (3 : Nat) (Option.some Jvm.ClassFile.FieldType.int)) ∈ lw_all := lw_g (lw_at lw_m13 192 rfl) rfl
theorem q3371 : (Jvm.Cond.instanceMethod ({ cls := "SchemaWorkshopModel", name := "transcode", desc := "(I)I" } : Jvm.MethodName)) ∈ lw_all := lw_g (lw_at lw_m13 194 rfl) rfl
theorem q3372 : (Jvm.Cond.selects "SchemaWorkshopModel" ({ cls := "SchemaWorkshopModel", name := "transcode", desc := "(I)I" } : Jvm.MethodName) ({ cls := "SchemaWorkshopModel", name := "transcode", desc := "(I)I" } : Jvm.MethodName)) ∈ lw_all := lw_g (lw_at lw_m13 195 rfl) rfl
theorem q3373 : (Jvm.Cond.code ({ cls := "SchemaWorkshopModel", name := "transcode", desc := "(I)I" } : Jvm.MethodName) prog_15_method_164_code (3 : Nat) (Option.some Jvm.ClassFile.FieldType.int)) ∈ lw_all := lw_g (lw_at lw_m13 196 rfl) rfl
theorem q3374 : (Jvm.Cond.methodLink "SchemaWorkshopModel" (988 : Nat) ({ cls := "SchemaWorkshopModel", name := "roomForElements", desc := "()V" } : Jvm.MethodName)) ∈ lw_all := lw_g (lw_at lw_m13 197 rfl) rfl
theorem q3375 : (Jvm.Cond.privateMethod ({ cls := "SchemaWorkshopModel", name := "roomForElements", desc := "()V" } : Jvm.MethodName)) ∈ lw_tbl := lw_at lw_m13 198 rfl
theorem q3376 : (Jvm.Cond.instanceMethod ({ cls := "SchemaWorkshopModel", name := "roomForElements", desc := "()V" } : Jvm.MethodName)) ∈ lw_all := lw_g (lw_at lw_m13 199 rfl) rfl
theorem q3377 : (Jvm.Cond.code ({ cls := "SchemaWorkshopModel", name := "roomForElements", desc := "()V" } : Jvm.MethodName) prog_15_method_9_code (2 : Nat) (Option.none : Option Jvm.ClassFile.FieldType)) ∈ lw_all := lw_g (lw_at lw_m13 200 rfl) rfl
theorem q3378 : (Jvm.Cond.methodLink "SchemaWorkshopModel" (991 : Nat) ({ cls := "SchemaWorkshopModel", name := "cutElements", desc := "()V" } : Jvm.MethodName)) ∈ lw_all := lw_g (lw_at lw_m13 201 rfl) rfl
theorem q3379 : (Jvm.Cond.privateMethod ({ cls := "SchemaWorkshopModel", name := "cutElements", desc := "()V" } : Jvm.MethodName)) ∈ lw_tbl := lw_at lw_m13 202 rfl
theorem q3380 : (Jvm.Cond.instanceMethod ({ cls := "SchemaWorkshopModel", name := "cutElements", desc := "()V" } : Jvm.MethodName)) ∈ lw_all := lw_g (lw_at lw_m13 203 rfl) rfl
theorem q3381 : (Jvm.Cond.code ({ cls := "SchemaWorkshopModel", name := "cutElements", desc := "()V" } : Jvm.MethodName) prog_15_method_135_code (3 : Nat) (Option.none : Option Jvm.ClassFile.FieldType)) ∈ lw_all := lw_g (lw_at lw_m13 204 rfl) rfl
theorem q3382 : (Jvm.Cond.methodLink "SchemaWorkshopModel" (874 : Nat) ({ cls := "SchemaWorkshopModel", name := "wall", desc := "()I" } : Jvm.MethodName)) ∈ lw_all := lw_g (lw_at lw_m13 205 rfl) rfl
theorem q3383 : (Jvm.Cond.privateMethod ({ cls := "SchemaWorkshopModel", name := "wall", desc := "()I" } : Jvm.MethodName)) ∈ lw_tbl := lw_at lw_m13 206 rfl
theorem q3384 : (Jvm.Cond.instanceMethod ({ cls := "SchemaWorkshopModel", name := "wall", desc := "()I" } : Jvm.MethodName)) ∈ lw_all := lw_g (lw_at lw_m13 207 rfl) rfl
theorem q3385 : (Jvm.Cond.code ({ cls := "SchemaWorkshopModel", name := "wall", desc := "()I" } : Jvm.MethodName) prog_15_method_133_code (2 : Nat) (Option.some Jvm.ClassFile.FieldType.int)) ∈ lw_all := lw_g (lw_at lw_m13 208 rfl) rfl
theorem q3386 : (Jvm.Cond.methodLink "SchemaWorkshopModel" (877 : Nat) ({ cls := "SchemaWorkshopModel", name := "closeParent", desc := "()V" } : Jvm.MethodName)) ∈ lw_all := lw_g (lw_at lw_m13 209 rfl) rfl
theorem q3387 : (Jvm.Cond.privateMethod ({ cls := "SchemaWorkshopModel", name := "closeParent", desc := "()V" } : Jvm.MethodName)) ∈ lw_tbl := lw_at lw_m13 210 rfl
theorem q3388 : (Jvm.Cond.instanceMethod ({ cls := "SchemaWorkshopModel", name := "closeParent", desc := "()V" } : Jvm.MethodName)) ∈ lw_all := lw_g (lw_at lw_m13 211 rfl) rfl
theorem q3389 : (Jvm.Cond.code ({ cls := "SchemaWorkshopModel", name := "closeParent", desc := "()V" } : Jvm.MethodName) prog_15_method_134_code (1 : Nat) (Option.none : Option Jvm.ClassFile.FieldType)) ∈ lw_all := lw_g (lw_at lw_m13 212 rfl) rfl
theorem q3390 : (Jvm.Cond.methodLink "SchemaWorkshopModel" (880 : Nat) ({ cls := "SchemaWorkshopModel", name := "element", desc := "(I)V" } : Jvm.MethodName)) ∈ lw_all := lw_g (lw_at lw_m13 213 rfl) rfl
theorem q3391 : (Jvm.Cond.privateMethod ({ cls := "SchemaWorkshopModel", name := "element", desc := "(I)V" } : Jvm.MethodName)) ∈ lw_tbl := lw_at lw_m13 214 rfl
theorem q3392 : (Jvm.Cond.instanceMethod ({ cls := "SchemaWorkshopModel", name := "element", desc := "(I)V" } : Jvm.MethodName)) ∈ lw_all := lw_g (lw_at lw_m13 215 rfl) rfl
theorem q3393 : (Jvm.Cond.code ({ cls := "SchemaWorkshopModel", name := "element", desc := "(I)V" } : Jvm.MethodName) prog_15_method_136_code (12 : Nat) (Option.none : Option Jvm.ClassFile.FieldType)) ∈ lw_all := lw_g (lw_at lw_m13 216 rfl) rfl
theorem q3394 : (Jvm.Cond.constant "SchemaWorkshopModel" (883 : Nat) (2097151 : Int32)) ∈ lw_all := lw_g (lw_at lw_m13 217 rfl) rfl
theorem q3395 : (Jvm.Cond.constantLong "SchemaWorkshopModel" (884 : Nat) (256 : Int64)) ∈ lw_all := lw_g (lw_at lw_m13 218 rfl) rfl
theorem q3396 : (Jvm.Cond.constantLong "SchemaWorkshopModel" (886 : Nat) (2147483647 : Int64)) ∈ lw_all := lw_g (lw_at lw_m13 219 rfl) rfl
theorem q3397 : (Jvm.Cond.methodLink "SchemaWorkshopModel" (937 : Nat) ({ cls := "SchemaWorkshopModel", name := "enter", desc := "(III)V" } : Jvm.MethodName)) ∈ lw_all := lw_g (lw_at lw_m13 220 rfl) rfl
theorem q3398 : (Jvm.Cond.privateMethod ({ cls := "SchemaWorkshopModel", name := "enter", desc := "(III)V" } : Jvm.MethodName)) ∈ lw_tbl := lw_at lw_m13 221 rfl
theorem q3399 : (Jvm.Cond.instanceMethod ({ cls := "SchemaWorkshopModel", name := "enter", desc := "(III)V" } : Jvm.MethodName)) ∈ lw_all := lw_g (lw_at lw_m13 222 rfl) rfl
theorem q3400 : (Jvm.Cond.code ({ cls := "SchemaWorkshopModel", name := "enter", desc := "(III)V" } : Jvm.MethodName) prog_15_method_143_code (9 : Nat) (Option.none : Option Jvm.ClassFile.FieldType)) ∈ lw_all := lw_g (lw_at lw_m13 223 rfl) rfl
theorem q3401 : (Jvm.Cond.methodLink "SchemaWorkshopModel" (901 : Nat) ({ cls := "SchemaWorkshopModel", name := "hasTag", desc := "(IJ)Z" } : Jvm.MethodName)) ∈ lw_all := lw_g (lw_at lw_m13 224 rfl) rfl
theorem q3402 : (Jvm.Cond.privateMethod ({ cls := "SchemaWorkshopModel", name := "hasTag", desc := "(IJ)Z" } : Jvm.MethodName)) ∈ lw_tbl := lw_at lw_m13 225 rfl
theorem q3403 : (Jvm.Cond.instanceMethod ({ cls := "SchemaWorkshopModel", name := "hasTag", desc := "(IJ)Z" } : Jvm.MethodName)) ∈ lw_all := lw_g (lw_at lw_m13 226 rfl) rfl
theorem q3404 : (Jvm.Cond.code ({ cls := "SchemaWorkshopModel", name := "hasTag", desc := "(IJ)Z" } : Jvm.MethodName) prog_15_method_141_code (4 : Nat) (Option.some Jvm.ClassFile.FieldType.boolean)) ∈ lw_all := lw_g (lw_at lw_m13 227 rfl) rfl
theorem q3405 : (Jvm.Cond.methodLink "SchemaWorkshopModel" (905 : Nat) ({ cls := "SchemaWorkshopModel", name := "roomForFrames", desc := "()V" } : Jvm.MethodName)) ∈ lw_all := lw_g (lw_at lw_m13 228 rfl) rfl
theorem q3406 : (Jvm.Cond.privateMethod ({ cls := "SchemaWorkshopModel", name := "roomForFrames", desc := "()V" } : Jvm.MethodName)) ∈ lw_tbl := lw_at lw_m13 229 rfl
theorem q3407 : (Jvm.Cond.instanceMethod ({ cls := "SchemaWorkshopModel", name := "roomForFrames", desc := "()V" } : Jvm.MethodName)) ∈ lw_all := lw_g (lw_at lw_m13 230 rfl) rfl
theorem q3408 : (Jvm.Cond.code ({ cls := "SchemaWorkshopModel", name := "roomForFrames", desc := "()V" } : Jvm.MethodName) prog_15_method_11_code (2 : Nat) (Option.none : Option Jvm.ClassFile.FieldType)) ∈ lw_all := lw_g (lw_at lw_m13 231 rfl) rfl
theorem q3409 : (Jvm.Cond.methodLink "SchemaWorkshopModel" (911 : Nat) ({ cls := "SchemaWorkshopModel", name := "leaf", desc := "(III)V" } : Jvm.MethodName)) ∈ lw_all := lw_g (lw_at lw_m13 232 rfl) rfl
theorem q3410 : (Jvm.Cond.privateMethod ({ cls := "SchemaWorkshopModel", name := "leaf", desc := "(III)V" } : Jvm.MethodName)) ∈ lw_tbl := lw_at lw_m13 233 rfl
theorem q3411 : (Jvm.Cond.instanceMethod ({ cls := "SchemaWorkshopModel", name := "leaf", desc := "(III)V" } : Jvm.MethodName)) ∈ lw_all := lw_g (lw_at lw_m13 234 rfl) rfl
theorem q3412 : (Jvm.Cond.code ({ cls := "SchemaWorkshopModel", name := "leaf", desc := "(III)V" } : Jvm.MethodName) prog_15_method_161_code (7 : Nat) (Option.none : Option Jvm.ClassFile.FieldType)) ∈ lw_all := lw_g (lw_at lw_m13 235 rfl) rfl
theorem q3413 : (Jvm.Cond.methodLink "SchemaWorkshopModel" (964 : Nat) ({ cls := "SchemaWorkshopModel", name := "gatherBits", desc := "(I)Z" } : Jvm.MethodName)) ∈ lw_all := lw_g (lw_at lw_m13 236 rfl) rfl
theorem q3414 : (Jvm.Cond.privateMethod ({ cls := "SchemaWorkshopModel", name := "gatherBits", desc := "(I)Z" } : Jvm.MethodName)) ∈ lw_tbl := lw_at lw_m13 237 rfl
theorem q3415 : (Jvm.Cond.instanceMethod ({ cls := "SchemaWorkshopModel", name := "gatherBits", desc := "(I)Z" } : Jvm.MethodName)) ∈ lw_all := lw_g (lw_at lw_m13 238 rfl) rfl
theorem q3416 : (Jvm.Cond.code ({ cls := "SchemaWorkshopModel", name := "gatherBits", desc := "(I)Z" } : Jvm.MethodName) prog_15_method_156_code (9 : Nat) (Option.some Jvm.ClassFile.FieldType.boolean)) ∈ lw_all := lw_g (lw_at lw_m13 239 rfl) rfl
theorem q3417 : (Jvm.Cond.methodLink "SchemaWorkshopModel" (967 : Nat) ({ cls := "SchemaWorkshopModel", name := "gatherParts", desc := "(II)Z" } : Jvm.MethodName)) ∈ lw_all := lw_g (lw_at lw_m14 0 rfl) rfl
theorem q3418 : (Jvm.Cond.privateMethod ({ cls := "SchemaWorkshopModel", name := "gatherParts", desc := "(II)Z" } : Jvm.MethodName)) ∈ lw_tbl := lw_at lw_m14 1 rfl
theorem q3419 : (Jvm.Cond.instanceMethod ({ cls := "SchemaWorkshopModel", name := "gatherParts", desc := "(II)Z" } : Jvm.MethodName)) ∈ lw_all := lw_g (lw_at lw_m14 2 rfl) rfl
theorem q3420 : (Jvm.Cond.code ({ cls := "SchemaWorkshopModel", name := "gatherParts", desc := "(II)Z" } : Jvm.MethodName) prog_15_method_155_code (7 : Nat) (Option.some Jvm.ClassFile.FieldType.boolean)) ∈ lw_all := lw_g (lw_at lw_m14 3 rfl) rfl
theorem q3421 : (Jvm.Cond.methodLink "SchemaWorkshopModel" (970 : Nat) ({ cls := "SchemaWorkshopModel", name := "isShortest", desc := "()Z" } : Jvm.MethodName)) ∈ lw_all := lw_g (lw_at lw_m14 4 rfl) rfl
theorem q3422 : (Jvm.Cond.privateMethod ({ cls := "SchemaWorkshopModel", name := "isShortest", desc := "()Z" } : Jvm.MethodName)) ∈ lw_tbl := lw_at lw_m14 5 rfl
theorem q3423 : (Jvm.Cond.instanceMethod ({ cls := "SchemaWorkshopModel", name := "isShortest", desc := "()Z" } : Jvm.MethodName)) ∈ lw_all := lw_g (lw_at lw_m14 6 rfl) rfl
theorem q3424 : (Jvm.Cond.code ({ cls := "SchemaWorkshopModel", name := "isShortest", desc := "()Z" } : Jvm.MethodName) prog_15_method_159_code (1 : Nat) (Option.some Jvm.ClassFile.FieldType.boolean)) ∈ lw_all := lw_g (lw_at lw_m14 7 rfl) rfl
theorem q3425 : (Jvm.Cond.methodLink "SchemaWorkshopModel" (973 : Nat) ({ cls := "SchemaWorkshopModel", name := "number", desc := "(III)V" } : Jvm.MethodName)) ∈ lw_all := lw_g (lw_at lw_m14 8 rfl) rfl
theorem q3426 : (Jvm.Cond.privateMethod ({ cls := "SchemaWorkshopModel", name := "number", desc := "(III)V" } : Jvm.MethodName)) ∈ lw_tbl := lw_at lw_m14 9 rfl
theorem q3427 : (Jvm.Cond.instanceMethod ({ cls := "SchemaWorkshopModel", name := "number", desc := "(III)V" } : Jvm.MethodName)) ∈ lw_all := lw_g (lw_at lw_m14 10 rfl) rfl
theorem q3428 : (Jvm.Cond.code ({ cls := "SchemaWorkshopModel", name := "number", desc := "(III)V" } : Jvm.MethodName) prog_15_method_162_code (7 : Nat) (Option.none : Option Jvm.ClassFile.FieldType)) ∈ lw_all := lw_g (lw_at lw_m14 11 rfl) rfl
theorem q3429 : (Jvm.Cond.methodLink "SchemaWorkshopModel" (976 : Nat) ({ cls := "SchemaWorkshopModel", name := "isObject", desc := "()Z" } : Jvm.MethodName)) ∈ lw_all := lw_g (lw_at lw_m14 12 rfl) rfl
theorem q3430 : (Jvm.Cond.privateMethod ({ cls := "SchemaWorkshopModel", name := "isObject", desc := "()Z" } : Jvm.MethodName)) ∈ lw_tbl := lw_at lw_m14 13 rfl
theorem q3431 : (Jvm.Cond.instanceMethod ({ cls := "SchemaWorkshopModel", name := "isObject", desc := "()Z" } : Jvm.MethodName)) ∈ lw_all := lw_g (lw_at lw_m14 14 rfl) rfl
theorem q3432 : (Jvm.Cond.code ({ cls := "SchemaWorkshopModel", name := "isObject", desc := "()Z" } : Jvm.MethodName) prog_15_method_158_code (3 : Nat) (Option.some Jvm.ClassFile.FieldType.boolean)) ∈ lw_all := lw_g (lw_at lw_m14 15 rfl) rfl
theorem q3433 : (Jvm.Cond.methodLink "SchemaWorkshopModel" (979 : Nat) ({ cls := "SchemaWorkshopModel", name := "string", desc := "(III)V" } : Jvm.MethodName)) ∈ lw_all := lw_g (lw_at lw_m14 16 rfl) rfl
theorem q3434 : (Jvm.Cond.privateMethod ({ cls := "SchemaWorkshopModel", name := "string", desc := "(III)V" } : Jvm.MethodName)) ∈ lw_tbl := lw_at lw_m14 17 rfl
theorem q3435 : (Jvm.Cond.instanceMethod ({ cls := "SchemaWorkshopModel", name := "string", desc := "(III)V" } : Jvm.MethodName)) ∈ lw_all := lw_g (lw_at lw_m14 18 rfl) rfl
theorem q3436 : (Jvm.Cond.code ({ cls := "SchemaWorkshopModel", name := "string", desc := "(III)V" } : Jvm.MethodName) prog_15_method_163_code (7 : Nat) (Option.none : Option Jvm.ClassFile.FieldType)) ∈ lw_all := lw_g (lw_at lw_m14 19 rfl) rfl
theorem q3437 : (Jvm.Cond.methodLink "SchemaWorkshopModel" (985 : Nat) ({ cls := "SchemaWorkshopModel", name := "countCharacters", desc := "()I" } : Jvm.MethodName)) ∈ lw_all := lw_g (lw_at lw_m14 20 rfl) rfl
theorem q3438 : (Jvm.Cond.privateMethod ({ cls := "SchemaWorkshopModel", name := "countCharacters", desc := "()I" } : Jvm.MethodName)) ∈ lw_tbl := lw_at lw_m14 21 rfl
theorem q3439 : (Jvm.Cond.instanceMethod ({ cls := "SchemaWorkshopModel", name := "countCharacters", desc := "()I" } : Jvm.MethodName)) ∈ lw_all := lw_g (lw_at lw_m14 22 rfl) rfl
theorem q3440 : (Jvm.Cond.code ({ cls := "SchemaWorkshopModel", name := "countCharacters", desc := "()I" } : Jvm.MethodName) prog_15_method_157_code (7 : Nat) (Option.some Jvm.ClassFile.FieldType.int)) ∈ lw_all := lw_g (lw_at lw_m14 23 rfl) rfl
theorem q3441 : (Jvm.Cond.constant "SchemaWorkshopModel" (957 : Nat) (65536 : Int32)) ∈ lw_all := lw_g (lw_at lw_m14 24 rfl) rfl
theorem q3442 : (Jvm.Cond.constant "SchemaWorkshopModel" (958 : Nat) (55296 : Int32)) ∈ lw_all := lw_g (lw_at lw_m14 25 rfl) rfl
theorem q3443 : (Jvm.Cond.constant "SchemaWorkshopModel" (959 : Nat) (57343 : Int32)) ∈ lw_all := lw_g (lw_at lw_m14 26 rfl) rfl
theorem q3444 : (Jvm.Cond.constant "SchemaWorkshopModel" (960 : Nat) (1114111 : Int32)) ∈ lw_all := lw_g (lw_at lw_m14 27 rfl) rfl
theorem q3445 : (Jvm.Cond.methodLink "SchemaWorkshopModel" (982 : Nat) ({ cls := "SchemaWorkshopModel", name := "writePiece", desc := "()V" } : Jvm.MethodName)) ∈ lw_all := lw_g (lw_at lw_m14 28 rfl) rfl
theorem q3446 : (Jvm.Cond.privateMethod ({ cls := "SchemaWorkshopModel", name := "writePiece", desc := "()V" } : Jvm.MethodName)) ∈ lw_tbl := lw_at lw_m14 29 rfl
theorem q3447 : (Jvm.Cond.instanceMethod ({ cls := "SchemaWorkshopModel", name := "writePiece", desc := "()V" } : Jvm.MethodName)) ∈ lw_all := lw_g (lw_at lw_m14 30 rfl) rfl
theorem q3448 : (Jvm.Cond.code ({ cls := "SchemaWorkshopModel", name := "writePiece", desc := "()V" } : Jvm.MethodName) prog_15_method_160_code (2 : Nat) (Option.none : Option Jvm.ClassFile.FieldType)) ∈ lw_all := lw_g (lw_at lw_m14 31 rfl) rfl
theorem q3449 : (Jvm.Cond.methodLink "SchemaWorkshopModel" (961 : Nat) ({ cls := "SchemaWorkshopModel", name := "write", desc := "(I)V" } : Jvm.MethodName)) ∈ lw_all := lw_g (lw_at lw_m14 32 rfl) rfl
theorem q3450 : (Jvm.Cond.privateMethod ({ cls := "SchemaWorkshopModel", name := "write", desc := "(I)V" } : Jvm.MethodName)) ∈ lw_tbl := lw_at lw_m14 33 rfl
theorem q3451 : (Jvm.Cond.instanceMethod ({ cls := "SchemaWorkshopModel", name := "write", desc := "(I)V" } : Jvm.MethodName)) ∈ lw_all := lw_g (lw_at lw_m14 34 rfl) rfl
theorem q3452 : (Jvm.Cond.code ({ cls := "SchemaWorkshopModel", name := "write", desc := "(I)V" } : Jvm.MethodName) prog_15_method_138_code (2 : Nat) (Option.none : Option Jvm.ClassFile.FieldType)) ∈ lw_all := lw_g (lw_at lw_m14 35 rfl) rfl
theorem q3453 : (Jvm.Cond.methodLink "SchemaWorkshopModel" (892 : Nat) ({ cls := "SchemaWorkshopModel", name := "roomForWork", desc := "(I)V" } : Jvm.MethodName)) ∈ lw_all := lw_g (lw_at lw_m14 36 rfl) rfl
theorem q3454 : (Jvm.Cond.privateMethod ({ cls := "SchemaWorkshopModel", name := "roomForWork", desc := "(I)V" } : Jvm.MethodName)) ∈ lw_tbl := lw_at lw_m14 37 rfl
theorem q3455 : (Jvm.Cond.instanceMethod ({ cls := "SchemaWorkshopModel", name := "roomForWork", desc := "(I)V" } : Jvm.MethodName)) ∈ lw_all := lw_g (lw_at lw_m14 38 rfl) rfl
theorem q3456 : (Jvm.Cond.code ({ cls := "SchemaWorkshopModel", name := "roomForWork", desc := "(I)V" } : Jvm.MethodName) prog_15_method_137_code (3 : Nat) (Option.none : Option Jvm.ClassFile.FieldType)) ∈ lw_all := lw_g (lw_at lw_m14 39 rfl) rfl
theorem q3457 : (Jvm.Cond.constant "SchemaWorkshopModel" (891 : Nat) (131072 : Int32)) ∈ lw_all := lw_g (lw_at lw_m14 40 rfl) rfl
theorem q3458 : (Jvm.Cond.methodLink "SchemaWorkshopModel" (915 : Nat) ({ cls := "SchemaWorkshopModel", name := "leave", desc := "()V" } : Jvm.MethodName)) ∈ lw_all := lw_g (lw_at lw_m14 41 rfl) rfl
theorem q3459 : (Jvm.Cond.privateMethod ({ cls := "SchemaWorkshopModel", name := "leave", desc := "()V" } : Jvm.MethodName)) ∈ lw_tbl := lw_at lw_m14 42 rfl
theorem q3460 : (Jvm.Cond.instanceMethod ({ cls := "SchemaWorkshopModel", name := "leave", desc := "()V" } : Jvm.MethodName)) ∈ lw_all := lw_g (lw_at lw_m14 43 rfl) rfl
theorem q3461 : (Jvm.Cond.code ({ cls := "SchemaWorkshopModel", name := "leave", desc := "()V" } : Jvm.MethodName) prog_15_method_144_code (8 : Nat) (Option.none : Option Jvm.ClassFile.FieldType)) ∈ lw_all := lw_g (lw_at lw_m14 44 rfl) rfl
theorem q3462 : (Jvm.Cond.methodLink "SchemaWorkshopModel" (918 : Nat) ({ cls := "SchemaWorkshopModel", name := "isDefault", desc := "(II)Z" } : Jvm.MethodName)) ∈ lw_all := lw_g (lw_at lw_m14 45 rfl) rfl
theorem q3463 : (Jvm.Cond.privateMethod ({ cls := "SchemaWorkshopModel", name := "isDefault", desc := "(II)Z" } : Jvm.MethodName)) ∈ lw_tbl := lw_at lw_m14 46 rfl
theorem q3464 : (Jvm.Cond.instanceMethod ({ cls := "SchemaWorkshopModel", name := "isDefault", desc := "(II)Z" } : Jvm.MethodName)) ∈ lw_all := lw_g (lw_at lw_m14 47 rfl) rfl
theorem q3465 : (Jvm.Cond.code ({ cls := "SchemaWorkshopModel", name := "isDefault", desc := "(II)Z" } : Jvm.MethodName) prog_15_method_145_code (5 : Nat) (Option.some Jvm.ClassFile.FieldType.boolean)) ∈ lw_all := lw_g (lw_at lw_m14 48 rfl) rfl
theorem q3466 : (Jvm.Cond.methodLink "SchemaWorkshopModel" (921 : Nat) ({ cls := "SchemaWorkshopModel", name := "wrap", desc := "(IJZ)V" } : Jvm.MethodName)) ∈ lw_all := lw_g (lw_at lw_m14 49 rfl) rfl
theorem q3467 : (Jvm.Cond.privateMethod ({ cls := "SchemaWorkshopModel", name := "wrap", desc := "(IJZ)V" } : Jvm.MethodName)) ∈ lw_tbl := lw_at lw_m14 50 rfl
theorem q3468 : (Jvm.Cond.instanceMethod ({ cls := "SchemaWorkshopModel", name := "wrap", desc := "(IJZ)V" } : Jvm.MethodName)) ∈ lw_all := lw_g (lw_at lw_m14 51 rfl) rfl
theorem q3469 : (Jvm.Cond.code ({ cls := "SchemaWorkshopModel", name := "wrap", desc := "(IJZ)V" } : Jvm.MethodName) prog_15_method_139_code (10 : Nat) (Option.none : Option Jvm.ClassFile.FieldType)) ∈ lw_all := lw_g (lw_at lw_m14 52 rfl) rfl
theorem q3470 : (Jvm.Cond.methodLink "SchemaWorkshopModel" (898 : Nat) ({ cls := "SchemaWorkshopModel", name := "headByte", desc := "(I)V" } : Jvm.MethodName)) ∈ lw_all := lw_g (lw_at lw_m14 53 rfl) rfl
theorem q3471 : (Jvm.Cond.privateMethod ({ cls := "SchemaWorkshopModel", name := "headByte", desc := "(I)V" } : Jvm.MethodName)) ∈ lw_tbl := lw_at lw_m14 54 rfl
theorem q3472 : (Jvm.Cond.instanceMethod ({ cls := "SchemaWorkshopModel", name := "headByte", desc := "(I)V" } : Jvm.MethodName)) ∈ lw_all := lw_g (lw_at lw_m14 55 rfl) rfl
theorem q3473 : (Jvm.Cond.code ({ cls := "SchemaWorkshopModel", name := "headByte", desc := "(I)V" } : Jvm.MethodName) prog_15_method_140_code (2 : Nat) (Option.none : Option Jvm.ClassFile.FieldType)) ∈ lw_all := lw_g (lw_at lw_m14 56 rfl) rfl
theorem q3474 : (Jvm.Cond.methodLink "SchemaWorkshopModel" (994 : Nat) ({ cls := "SchemaWorkshopModel", name := "goOn", desc := "()V" } : Jvm.MethodName)) ∈ lw_all := lw_g (lw_at lw_m14 57 rfl) rfl
theorem q3475 : (Jvm.Cond.privateMethod ({ cls := "SchemaWorkshopModel", name := "goOn", desc := "()V" } : Jvm.MethodName)) ∈ lw_tbl := lw_at lw_m14 58 rfl
theorem q3476 : (Jvm.Cond.instanceMethod ({ cls := "SchemaWorkshopModel", name := "goOn", desc := "()V" } : Jvm.MethodName)) ∈ lw_all := lw_g (lw_at lw_m14 59 rfl) rfl
theorem q3477 : (Jvm.Cond.code ({ cls := "SchemaWorkshopModel", name := "goOn", desc := "()V" } : Jvm.MethodName) prog_15_method_146_code (5 : Nat) (Option.none : Option Jvm.ClassFile.FieldType)) ∈ lw_all := lw_g (lw_at lw_m14 60 rfl) rfl
theorem q3478 : (Jvm.Cond.methodLink "SchemaWorkshopModel" (925 : Nat) ({ cls := "SchemaWorkshopModel", name := "choose", desc := "(III)V" } : Jvm.MethodName)) ∈ lw_all := lw_g (lw_at lw_m14 61 rfl) rfl
theorem q3479 : (Jvm.Cond.privateMethod ({ cls := "SchemaWorkshopModel", name := "choose", desc := "(III)V" } : Jvm.MethodName)) ∈ lw_tbl := lw_at lw_m14 62 rfl
theorem q3480 : (Jvm.Cond.instanceMethod ({ cls := "SchemaWorkshopModel", name := "choose", desc := "(III)V" } : Jvm.MethodName)) ∈ lw_all := lw_g (lw_at lw_m14 63 rfl) rfl
theorem q3481 : (Jvm.Cond.code ({ cls := "SchemaWorkshopModel", name := "choose", desc := "(III)V" } : Jvm.MethodName) prog_15_method_147_code (5 : Nat) (Option.none : Option Jvm.ClassFile.FieldType)) ∈ lw_all := lw_g (lw_at lw_m14 64 rfl) rfl
theorem q3482 : (Jvm.Cond.methodLink "SchemaWorkshopModel" (940 : Nat) ({ cls := "SchemaWorkshopModel", name := "mayBe", desc := "(II)Z" } : Jvm.MethodName)) ∈ lw_all := lw_g (lw_at lw_m14 65 rfl) rfl
theorem q3483 : (Jvm.Cond.privateMethod ({ cls := "SchemaWorkshopModel", name := "mayBe", desc := "(II)Z" } : Jvm.MethodName)) ∈ lw_tbl := lw_at lw_m14 66 rfl
theorem q3484 : (Jvm.Cond.instanceMethod ({ cls := "SchemaWorkshopModel", name := "mayBe", desc := "(II)Z" } : Jvm.MethodName)) ∈ lw_all := lw_g (lw_at lw_m14 67 rfl) rfl
theorem q3485 : (Jvm.Cond.code ({ cls := "SchemaWorkshopModel", name := "mayBe", desc := "(II)Z" } : Jvm.MethodName) prog_15_method_142_code (5 : Nat) (Option.some Jvm.ClassFile.FieldType.boolean)) ∈ lw_all := lw_g (lw_at lw_m14 68 rfl) rfl
theorem q3486 : (Jvm.Cond.methodLink "SchemaWorkshopModel" (928 : Nat) ({ cls := "SchemaWorkshopModel", name := "finish", desc := "(II)V" } : Jvm.MethodName)) ∈ lw_all := lw_g (lw_at lw_m14 69 rfl) rfl
theorem q3487 : (Jvm.Cond.privateMethod ({ cls := "SchemaWorkshopModel", name := "finish", desc := "(II)V" } : Jvm.MethodName)) ∈ lw_tbl := lw_at lw_m14 70 rfl
theorem q3488 : (Jvm.Cond.instanceMethod ({ cls := "SchemaWorkshopModel", name := "finish", desc := "(II)V" } : Jvm.MethodName)) ∈ lw_all := lw_g (lw_at lw_m14 71 rfl) rfl
theorem q3489 : (Jvm.Cond.code ({ cls := "SchemaWorkshopModel", name := "finish", desc := "(II)V" } : Jvm.MethodName) prog_15_method_150_code (8 : Nat) (Option.none : Option Jvm.ClassFile.FieldType)) ∈ lw_all := lw_g (lw_at lw_m14 72 rfl) rfl
theorem q3490 : (Jvm.Cond.methodLink "SchemaWorkshopModel" (943 : Nat) ({ cls := "SchemaWorkshopModel", name := "sort", desc := "(IZ)V" } : Jvm.MethodName)) ∈ lw_all := lw_g (lw_at lw_m14 73 rfl) rfl
theorem q3491 : (Jvm.Cond.privateMethod ({ cls := "SchemaWorkshopModel", name := "sort", desc := "(IZ)V" } : Jvm.MethodName)) ∈ lw_tbl := lw_at lw_m14 74 rfl
theorem q3492 : (Jvm.Cond.instanceMethod ({ cls := "SchemaWorkshopModel", name := "sort", desc := "(IZ)V" } : Jvm.MethodName)) ∈ lw_all := lw_g (lw_at lw_m14 75 rfl) rfl
theorem q3493 : (Jvm.Cond.code ({ cls := "SchemaWorkshopModel", name := "sort", desc := "(IZ)V" } : Jvm.MethodName) prog_15_method_154_code (11 : Nat) (Option.none : Option Jvm.ClassFile.FieldType)) ∈ lw_all := lw_g (lw_at lw_m14 76 rfl) rfl
theorem q3494 : (Jvm.Cond.methodLink "SchemaWorkshopModel" (954 : Nat) ({ cls := "SchemaWorkshopModel", name := "isAfter", desc := "(IIZ)Z" } : Jvm.MethodName)) ∈ lw_all := lw_g (lw_at lw_m14 77 rfl) rfl
theorem q3495 : (Jvm.Cond.privateMethod ({ cls := "SchemaWorkshopModel", name := "isAfter", desc := "(IIZ)Z" } : Jvm.MethodName)) ∈ lw_tbl := lw_at lw_m14 78 rfl
theorem q3496 : (Jvm.Cond.instanceMethod ({ cls := "SchemaWorkshopModel", name := "isAfter", desc := "(IIZ)Z" } : Jvm.MethodName)) ∈ lw_all := lw_g (lw_at lw_m14 79 rfl) rfl
theorem q3497 : (Jvm.Cond.code ({ cls := "SchemaWorkshopModel", name := "isAfter", desc := "(IIZ)Z" } : Jvm.MethodName) prog_15_method_153_code (8 : Nat) (Option.some Jvm.ClassFile.FieldType.boolean)) ∈ lw_all := lw_g (lw_at lw_m14 80 rfl) rfl
theorem q3498 : (Jvm.Cond.methodLink "SchemaWorkshopModel" (947 : Nat) ({ cls := "SchemaWorkshopModel", name := "segmentEnd", desc := "(I)I" } : Jvm.MethodName)) ∈ lw_all := lw_g (lw_at lw_m14 81 rfl) rfl
theorem q3499 : (Jvm.Cond.privateMethod ({ cls := "SchemaWorkshopModel", name := "segmentEnd", desc := "(I)I" } : Jvm.MethodName)) ∈ lw_tbl := lw_at lw_m14 82 rfl
theorem q3500 : (Jvm.Cond.instanceMethod ({ cls := "SchemaWorkshopModel", name := "segmentEnd", desc := "(I)I" } : Jvm.MethodName)) ∈ lw_all := lw_g (lw_at lw_m14 83 rfl) rfl
theorem q3501 : (Jvm.Cond.code ({ cls := "SchemaWorkshopModel", name := "segmentEnd", desc := "(I)I" } : Jvm.MethodName) prog_15_method_151_code (2 : Nat) (Option.some Jvm.ClassFile.FieldType.int)) ∈ lw_all := lw_g (lw_at lw_m14 84 rfl) rfl
theorem q3502 : (Jvm.Cond.methodLink "SchemaWorkshopModel" (950 : Nat) ({ cls := "SchemaWorkshopModel", name := "tagAt", desc := "(I)J" } : Jvm.MethodName)) ∈ lw_all := lw_g (lw_at lw_m14 85 rfl) rfl
theorem q3503 : (Jvm.Cond.privateMethod ({ cls := "SchemaWorkshopModel", name := "tagAt", desc := "(I)J" } : Jvm.MethodName)) ∈ lw_tbl := lw_at lw_m14 86 rfl
theorem q3504 : (Jvm.Cond.instanceMethod ({ cls := "SchemaWorkshopModel", name := "tagAt", desc := "(I)J" } : Jvm.MethodName)) ∈ lw_all := lw_g (lw_at lw_m14 87 rfl) rfl
theorem q3505 : (Jvm.Cond.code ({ cls := "SchemaWorkshopModel", name := "tagAt", desc := "(I)J" } : Jvm.MethodName) prog_15_method_152_code (5 : Nat) (Option.some Jvm.ClassFile.FieldType.long)) ∈ lw_all := lw_g (lw_at lw_m14 88 rfl) rfl
theorem q3506 : (Jvm.Cond.methodLink "SchemaWorkshopModel" (931 : Nat) ({ cls := "SchemaWorkshopModel", name := "nextOfSequence", desc := "(III)V" } : Jvm.MethodName)) ∈ lw_all := lw_g (lw_at lw_m14 89 rfl) rfl
theorem q3507 : (Jvm.Cond.privateMethod ({ cls := "SchemaWorkshopModel", name := "nextOfSequence", desc := "(III)V" } : Jvm.MethodName)) ∈ lw_tbl := lw_at lw_m14 90 rfl
theorem q3508 : (Jvm.Cond.instanceMethod ({ cls := "SchemaWorkshopModel", name := "nextOfSequence", desc := "(III)V" } : Jvm.MethodName)) ∈ lw_all := lw_g (lw_at lw_m14 91 rfl) rfl
theorem q3509 : (Jvm.Cond.code ({ cls := "SchemaWorkshopModel", name := "nextOfSequence", desc := "(III)V" } : Jvm.MethodName) prog_15_method_148_code (5 : Nat) (Option.none : Option Jvm.ClassFile.FieldType)) ∈ lw_all := lw_g (lw_at lw_m14 92 rfl) rfl
theorem q3510 : (Jvm.Cond.methodLink "SchemaWorkshopModel" (934 : Nat) ({ cls := "SchemaWorkshopModel", name := "nextOfSet", desc := "(III)V" } : Jvm.MethodName)) ∈ lw_all := lw_g (lw_at lw_m14 93 rfl) rfl
theorem q3511 : (Jvm.Cond.privateMethod ({ cls := "SchemaWorkshopModel", name := "nextOfSet", desc := "(III)V" } : Jvm.MethodName)) ∈ lw_tbl := lw_at lw_m14 94 rfl
theorem q3512 : (Jvm.Cond.instanceMethod ({ cls := "SchemaWorkshopModel", name := "nextOfSet", desc := "(III)V" } : Jvm.MethodName)) ∈ lw_all := lw_g (lw_at lw_m14 95 rfl) rfl
theorem q3513 : (Jvm.Cond.code ({ cls := "SchemaWorkshopModel", name := "nextOfSet", desc := "(III)V" } : Jvm.MethodName) prog_15_method_149_code (6 : Nat) (Option.none : Option Jvm.ClassFile.FieldType)) ∈ lw_all := lw_g (lw_at lw_m14 96 rfl) rfl
theorem q3515 : (Jvm.Cond.instanceMethod ({ cls := "SchemaWorkshopModel", name := "out", desc := "(I)I" } : Jvm.MethodName)) ∈ lw_all := lw_g (lw_at lw_m14 98 rfl) rfl
theorem q3516 : (Jvm.Cond.selects "SchemaWorkshopModel" ({ cls := "SchemaWorkshopModel", name := "out", desc := "(I)I" } : Jvm.MethodName) ({ cls := "SchemaWorkshopModel", name := "out", desc := "(I)I" } : Jvm.MethodName)) ∈ lw_all := lw_g (lw_at lw_m14 99 rfl) rfl
theorem q3517 : (Jvm.Cond.code ({ cls := "SchemaWorkshopModel", name := "out", desc := "(I)I" } : Jvm.MethodName) prog_15_method_165_code (2 : Nat) (Option.some Jvm.ClassFile.FieldType.int)) ∈ lw_all := lw_g (lw_at lw_m14 100 rfl) rfl
theorem q3519 : (Jvm.Cond.instanceMethod ({ cls := "SchemaWorkshopModel", name := "again", desc := "()I" } : Jvm.MethodName)) ∈ lw_all := lw_g (lw_at lw_m14 102 rfl) rfl
theorem q3520 : (Jvm.Cond.selects "SchemaWorkshopModel" ({ cls := "SchemaWorkshopModel", name := "again", desc := "()I" } : Jvm.MethodName) ({ cls := "SchemaWorkshopModel", name := "again", desc := "()I" } : Jvm.MethodName)) ∈ lw_all := lw_g (lw_at lw_m14 103 rfl) rfl
theorem q3521 : (Jvm.Cond.code ({ cls := "SchemaWorkshopModel", name := "again", desc := "()I" } : Jvm.MethodName) prog_15_method_166_code (2 : Nat) (Option.some Jvm.ClassFile.FieldType.int)) ∈ lw_all := lw_g (lw_at lw_m14 104 rfl) rfl
theorem q3523 : (Jvm.Cond.instanceMethod ({ cls := "SchemaWorkshopModel", name := "count", desc := "(I)I" } : Jvm.MethodName)) ∈ lw_all := lw_g (lw_at lw_m14 106 rfl) rfl
theorem q3524 : (Jvm.Cond.selects "SchemaWorkshopModel" ({ cls := "SchemaWorkshopModel", name := "count", desc := "(I)I" } : Jvm.MethodName) ({ cls := "SchemaWorkshopModel", name := "count", desc := "(I)I" } : Jvm.MethodName)) ∈ lw_all := lw_g (lw_at lw_m14 107 rfl) rfl
theorem q3525 : (Jvm.Cond.code ({ cls := "SchemaWorkshopModel", name := "count", desc := "(I)I" } : Jvm.MethodName) prog_15_method_167_code (2 : Nat) (Option.some Jvm.ClassFile.FieldType.int)) ∈ lw_all := lw_g (lw_at lw_m14 108 rfl) rfl
theorem in_X14_at : ∀ k, k < 163 → u_lay RX14 TX14 k ∈ lw_all
  | 0, _ => q2533
  | 1, _ => q2535
  | 2, _ => q2537
  | 3, _ => q2539
  | 4, _ => q2541
  | 5, _ => q2543
  | 6, _ => q2545
  | 7, _ => q2547
  | 8, _ => q2549
  | 9, _ => q2551
  | 10, _ => q2553
  | 11, _ => q2555
  | 12, _ => q2557
  | 13, _ => q2559
  | 14, _ => q2561
  | 15, _ => q2563
  | 16, _ => q2565
  | 17, _ => q2567
  | 18, _ => q2569
  | 19, _ => q2571
  | 20, _ => q2573
  | 21, _ => q2575
  | 22, _ => q2577
  | 23, _ => q2579
  | 24, _ => q2581
  | 25, _ => q2583
  | 26, _ => q2585
  | 27, _ => q2587
  | 28, _ => q2589
  | 29, _ => q2591
  | 30, _ => q2593
  | 31, _ => q2595
  | 32, _ => q2597
  | 33, _ => q2599
  | 34, _ => q2601
  | 35, _ => q2603
  | 36, _ => q2605
  | 37, _ => q2607
  | 38, _ => q2609
  | 39, _ => q2611
  | 40, _ => q2613
  | 41, _ => q2615
  | 42, _ => q2617
  | 43, _ => q2619
  | 44, _ => q2621
  | 45, _ => q2623
  | 46, _ => q2625
  | 47, _ => q2627
  | 48, _ => q2629
  | 49, _ => q2631
  | 50, _ => q2633
  | 51, _ => q2635
  | 52, _ => q2637
  | 53, _ => q2639
  | 54, _ => q2641
  | 55, _ => q2643
  | 56, _ => q2645
  | 57, _ => q2647
  | 58, _ => q2649
  | 59, _ => q2651
  | 60, _ => q2653
  | 61, _ => q2655
  | 62, _ => q2657
  | 63, _ => q2659
  | 64, _ => q2661
  | 65, _ => q2663
  | 66, _ => q2665
  | 67, _ => q2667
  | 68, _ => q2669
  | 69, _ => q2671
  | 70, _ => q2673
  | 71, _ => q2675
  | 72, _ => q2677
  | 73, _ => q2679
  | 74, _ => q2681
  | 75, _ => q2683
  | 76, _ => q2685
  | 77, _ => q2687
  | 78, _ => q2689
  | 79, _ => q2691
  | 80, _ => q2693
  | 81, _ => q2695
  | 82, _ => q2697
  | 83, _ => q2699
  | 84, _ => q2701
  | 85, _ => q2703
  | 86, _ => q2705
  | 87, _ => q2707
  | 88, _ => q2709
  | 89, _ => q2711
  | 90, _ => q2713
  | 91, _ => q2715
  | 92, _ => q2717
  | 93, _ => q2719
  | 94, _ => q2721
  | 95, _ => q2723
  | 96, _ => q2725
  | 97, _ => q2727
  | 98, _ => q2729
  | 99, _ => q2731
  | 100, _ => q2733
  | 101, _ => q2735
  | 102, _ => q2737
  | 103, _ => q2739
  | 104, _ => q2741
  | 105, _ => q2743
  | 106, _ => q2745
  | 107, _ => q2747
  | 108, _ => q2749
  | 109, _ => q2751
  | 110, _ => q2753
  | 111, _ => q2755
  | 112, _ => q2757
  | 113, _ => q2759
  | 114, _ => q2761
  | 115, _ => q2763
  | 116, _ => q2765
  | 117, _ => q2767
  | 118, _ => q2769
  | 119, _ => q2771
  | 120, _ => q2773
  | 121, _ => q2775
  | 122, _ => q2777
  | 123, _ => q2779
  | 124, _ => q2781
  | 125, _ => q2783
  | 126, _ => q2785
  | 127, _ => q2787
  | 128, _ => q2789
  | 129, _ => q2791
  | 130, _ => q2793
  | 131, _ => q2795
  | 132, _ => q2797
  | 133, _ => q2799
  | 134, _ => q2801
  | 135, _ => q2803
  | 136, _ => q2805
  | 137, _ => q2807
  | 138, _ => q2809
  | 139, _ => q2811
  | 140, _ => q2813
  | 141, _ => q2815
  | 142, _ => q2817
  | 143, _ => q2819
  | 144, _ => q2821
  | 145, _ => q2823
  | 146, _ => q2825
  | 147, _ => q2827
  | 148, _ => q2829
  | 149, _ => q2831
  | 150, _ => q2833
  | 151, _ => q2835
  | 152, _ => q2837
  | 153, _ => q2839
  | 154, _ => q2841
  | 155, _ => q2843
  | 156, _ => q2845
  | 157, _ => q2847
  | 158, _ => q2849
  | 159, _ => q2851
  | 160, _ => q2853
  | 161, _ => q2855
  | 162, _ => q2857
  | k + 163, h => absurd h (by omega)
theorem in_X14 : ∀ w ∈ wsX140, w ∈ lw_all := fun w h => by
  obtain ⟨k, hk, rfl⟩ := List.mem_map.mp h
  exact in_X14_at k (List.mem_range.mp hk)
